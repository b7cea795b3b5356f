/-! the model: what stays, what is read -/
def permQ (q : Nat) : Bool := q == 95 || q == 96 || q == 101 || q == 102 || q == 103 || q == 109 || q == 110 || q == 114 || q == 115 || q == 117 || q == 118 || q == 119 || q == 120 || Nat.blt q 94 || Nat.blt 121 q
/-- the same but for what is worked out anew -/
def PEq (V0 V : MVal) : Prop := (∀ q, permQ q = true → V q = V0 q) ∧ V 94 9 = V0 94 9 ∧ V 94 23 = V0 94 23 ∧ V 94 32 = V0 94 32
theorem PEq.rf (V : MVal) : PEq V V := ⟨fun _ _ => rfl, rfl, rfl, rfl⟩
theorem PEq.tr {A B C : MVal} (h : PEq A B) (g : PEq B C) : PEq A C := ⟨fun q hq => (g.1 q hq).trans (h.1 q hq), g.2.1.trans h.2.1, g.2.2.1.trans h.2.2.1, g.2.2.2.trans h.2.2.2⟩
theorem PEq.wr {A B : MVal} (h : PEq A B) (p i : Nat) (x : Int) : PEq (u2 A p i x) (u2 B p i x) := by
  have key : ∀ q j, A q j = B q j → u2 B p i x q j = u2 A p i x q j := fun q j e => by
    show (if q = p ∧ j = i then x else B q j) = (if q = p ∧ j = i then x else A q j)
    rw [e]
  exact ⟨fun q hq => funext fun j => key q j (by rw [h.1 q hq]), key _ _ h.2.1.symm, key _ _ h.2.2.1.symm, key _ _ h.2.2.2.symm⟩
/-- a store to what is worked out anew -/
theorem PEq.scr {A B : MVal} (h : PEq A B) {p i : Nat} {x : Int} (hp : permQ p = false) (hp2 : p ≠ 94) : PEq A (u2 B p i x) := by
  refine ⟨fun q hq => ?_, ?_, ?_, ?_⟩
  · rw [u2_ne (fun e => by rw [e, hp] at hq; cases hq)]; exact h.1 q hq
  · rw [u2_ne (Ne.symm hp2)]; exact h.2.1
  · rw [u2_ne (Ne.symm hp2)]; exact h.2.2.1
  · rw [u2_ne (Ne.symm hp2)]; exact h.2.2.2
theorem PEq.fld {A B : MVal} (h : PEq A B) {i : Nat} {x : Int} (h1 : i ≠ 9) (h2 : i ≠ 23) (h3 : i ≠ 32) : PEq A (u2 B 94 i x) := by
  refine ⟨fun q hq => ?_, ?_, ?_, ?_⟩
  · rw [u2_ne (fun e => by rw [e] at hq; cases hq)]; exact h.1 q hq
  · rw [u2_off (Ne.symm h1)]; exact h.2.1
  · rw [u2_off (Ne.symm h2)]; exact h.2.2.1
  · rw [u2_off (Ne.symm h3)]; exact h.2.2.2
theorem PEq.bt {A B : MVal} (h : PEq A B) : bt B = bt A := bt_congr (h.1 95 rfl) (h.1 96 rfl)
theorem PEq.tn {A B : MVal} (h : PEq A B) : tn B = tn A := tn_congr (h.1 95 rfl)
theorem PEq.nH {A B : MVal} (h : PEq A B) : nH B = nH A := by
  unfold Jvm.Pilot.@@N@@.nH; rw [h.bt, h.tn]
theorem PEq.fH {A B : MVal} (h : PEq A B) : fH B = fH A := by
  unfold Jvm.Pilot.@@N@@.fH; rw [h.bt, h.tn]
theorem PEq.nP {A B : MVal} (h : PEq A B) : nP B = nP A := by
  unfold Jvm.Pilot.@@N@@.nP; rw [h.bt, h.tn]
theorem PEq.fP {A B : MVal} (h : PEq A B) : fP B = fP A := by
  unfold Jvm.Pilot.@@N@@.fP; rw [h.bt, h.tn]
theorem PEq.ow {A B : MVal} (h : PEq A B) : ow B = ow A := by
  funext k; unfold Jvm.Pilot.@@N@@.ow; rw [h.bt]
theorem PEq.pr {A B : MVal} (h : PEq A B) : pr B = pr A := by
  funext k; unfold Jvm.Pilot.@@N@@.pr; rw [h.bt]
theorem PEq.kd {A B : MVal} (h : PEq A B) : kd B = kd A := by
  funext k; unfold Jvm.Pilot.@@N@@.kd; rw [h.bt]
theorem PEq.pl0 {A B : MVal} (h : PEq A B) : pl0 B = pl0 A := by
  funext k; unfold Jvm.Pilot.@@N@@.pl0; rw [h.bt]
theorem PEq.MT {A B : MVal} (h : PEq A B) (hT : MT A) : MT B := by
  unfold Jvm.Pilot.@@N@@.MT; rw [h.1 95 rfl, h.1 96 rfl]; exact hT
/-- the read state of V0 -/
def RSt (V0 V : MVal) : Prop := PEq V0 V ∧ V 94 2 = nH V0 ∧ V 94 5 = nP V0 ∧ (∀ j, j < nH V0 → V 97 j = ow V0 j ∧ V 98 j = pr V0 j) ∧ ∀ j, j < nP V0 → V 99 j = kd V0 j ∧ V 100 j = pl V0 j
set_option maxHeartbeats 4000000 in
theorem sp_reads {d : Nat} {M : MH} {V0 V : MVal} (hS : MS (msh M) (mrv M)) (hT : MT V0) (hP : PEq V0 V) : MVv mX7_reads (d + 2) [vp 94] M V (RSt V0) := by
  refine mc_of (L := [vp 94, vu, vu]) (by decide +kernel) (Nat.le_of_ble_eq_true rfl) rfl ?_
  refine iX7_reads_0 ?_
  refine jX7_reads_1 hS (sp_readsHouses hS (hP.MT hT)) ?_
  rintro z V1 ⟨-, a2, a3, a4, a5⟩
  rw [hP.nH] at a2 a3
  rw [hP.ow, hP.pr] at a3
  have hP1 : PEq V0 V1 := ⟨fun q hq => by rw [a4 q (fun e => by rw [e] at hq; cases hq) (fun e => by rw [e] at hq; cases hq) (fun e => by rw [e] at hq; cases hq)]; exact hP.1 q hq, by rw [a5 9 (by decide)]; exact hP.2.1, by rw [a5 23 (by decide)]; exact hP.2.2.1, by rw [a5 32 (by decide)]; exact hP.2.2.2⟩
  refine iX7_reads_4 (iX7_reads_5 ?_)
  refine jX7_reads_6 hS (sp_readsPeople hS (hP1.MT hT)) ?_
  rintro z2 V2 ⟨-, b2, b3, b4, b5⟩
  rw [hP1.nP] at b2 b3
  rw [hP1.kd, hP1.pl0] at b3
  have hP2 : PEq V0 V2 := ⟨fun q hq => by rw [b4 q (fun e => by rw [e] at hq; cases hq) (fun e => by rw [e] at hq; cases hq) (fun e => by rw [e] at hq; cases hq)]; exact hP1.1 q hq, by rw [b5 9 (by decide)]; exact hP1.2.1, by rw [b5 23 (by decide)]; exact hP1.2.2.1, by rw [b5 32 (by decide)]; exact hP1.2.2.2⟩
  have c2 : V2 94 2 = nH V0 := by rw [b5 2 (by decide)]; exact a2
  have c97 : V2 97 = V1 97 := b4 97 (by decide) (by decide) (by decide)
  have c98 : V2 98 = V1 98 := b4 98 (by decide) (by decide) (by decide)
  have hn8 := nH_le V0
  have hp8 := nP_le V0
  refine iX7_reads_9 (iX7_reads_10 (iX7_reads_11 ?_))
  have loop : ∀ f k : Nat, ∀ (y : Int) (V : MVal), k + f = nP V0 → y = k → PEq V0 V → V 94 2 = nH V0 → V 94 5 = nP V0 → V 97 = V1 97 → V 98 = V1 98 → (∀ j, j < nP V0 → V 99 j = kd V0 j ∧ V 100 j = if j < k then pl V0 j else pl0 V0 j) → MW mX7_reads (d + 2) 12 [vp 94, vi z2, vi y] [] (sI M V) (Vv M (RSt V0)) := by
    intro f
    induction f with
    | zero =>
      intro k y V h1 h2 h3 h4 h5 h6 h7 h8
      refine iX7_reads_12 (iX7_reads_13 (jX7_reads_14 hS (iX7_reads_17 (by omega) (by omega) (fun g => ?_) (fun g => ?_))))
      · refine iX7_reads_55 ?_
        refine ⟨V, rfl, h3, h4, h5, fun j hj => ?_, fun j hj => ?_⟩
        · rw [h6, h7]; exact a3 j hj
        · have := h8 j hj
          rw [if_pos (by omega)] at this
          exact this
      · omega
    | succ f ih =>
      intro k y V h1 h2 h3 h4 h5 h6 h7 h8
      subst h2
      obtain ⟨k1, k2⟩ := h8 k (by omega)
      rw [if_neg (by omega)] at k2
      have r0 := pl0_rng (V := V0) (j := k) (by omega)
      have ek : ((k : Int)).toNat = k := by omega
      have fin : ∀ x : Int, x = pl V0 k → MW mX7_reads (d + 2) 48 [vp 94, vi z2, vi k] [vi x, vi k, vp 100] (sI M V) (Vv M (RSt V0)) := by
        intro x hx
        refine jX7_reads_48 hS ⟨by omega, by omega⟩ (iX7_reads_49 (iX7_reads_52 ?_))
        rw [ek]
        refine ih (k + 1) _ _ (by omega) (by omega) (h3.scr rfl (by decide)) (by rw [u2_ne (by decide)]; exact h4) (by rw [u2_ne (by decide)]; exact h5) (by rw [u2_ne (by decide)]; exact h6) (by rw [u2_ne (by decide)]; exact h7) (fun j hj => ?_)
        obtain ⟨m1, m2⟩ := h8 j hj
        rw [u2_ne (by decide)]
        refine ⟨m1, ?_⟩
        by_cases e : j = k
        · subst e
          rw [u2_at, if_pos (by omega)]; exact hx
        · rw [u2_off e, m2]
          by_cases e2 : j < k
          · rw [if_pos e2, if_pos (by omega)]
          · rw [if_neg e2, if_neg (by omega)]
      refine iX7_reads_12 (iX7_reads_13 (jX7_reads_14 hS (iX7_reads_17 (by omega) (by omega) (fun g => ?_) (fun g => ?_))))
      · omega
      · refine iX7_reads_20 (jX7_reads_21 hS (iX7_reads_24 (iX7_reads_25 (jX7_reads_26 hS (iX7_reads_29 (jX7_reads_30 hS ⟨by omega, by omega⟩ ?_))))))
        rw [ek, k2]
        refine iX7_reads_31 (jX7_reads_32 hS (iX7_reads_35 (by omega) (by omega) (fun g2 => ?_) (fun g2 => ?_)))
        · refine iX7_reads_47 ?_
          exact fin _ (by unfold pl; rw [if_neg (by omega)])
        · refine iX7_reads_38 (jX7_reads_39 hS (iX7_reads_42 (jX7_reads_43 hS ⟨by omega, by omega⟩ (iX7_reads_44 ?_))))
          rw [ek, k2]
          exact fin _ (by unfold pl; rw [if_pos (by omega)])
  refine loop (nP V0) 0 0 V2 (by omega) rfl hP2 c2 b2 c97 c98 (fun j hj => ?_)
  rw [if_neg (by omega)]
  exact b3 j hj
theorem bz_iff {p q : Prop} [Decidable p] [Decidable q] (h : p ↔ q) : bz p = bz q := by
  unfold bz
  by_cases hp : p
  · rw [if_pos hp, if_pos (h.mp hp)]
  · rw [if_neg hp, if_neg (fun z => hp (h.mpr z))]
theorem sp_isHouse {d : Nat} {M : MH} {V0 V : MVal} (hS : MS (msh M) (mrv M)) (hT : MT V0) (hP : PEq V0 V) {h : Int} (hh : inR h) : MVi mX7_isHouse (d + 3) [vp 94, vi h] M V (fun z V' => z = bz (0 ≤ h ∧ h < nH V0) ∧ RSt V0 V') := by
  refine mc_of (L := [vp 94, vi h]) (by decide +kernel) (Nat.le_of_ble_eq_true rfl) rfl ?_
  refine iX7_isHouse_0 ?_
  refine jX7_isHouse_1 hS (sp_reads hS hT hP) ?_
  intro V1 h1
  have := h1.2.1
  have := nH_le V0
  refine iX7_isHouse_4 (iX7_isHouse_5 (iX7_isHouse_6 (jX7_isHouse_7 hS (iX7_isHouse_10 (iX7_isHouse_11 (jX7_isHouse_12 (sp_X7_in (by omega) (by omega) (by omega)) (iX7_isHouse_15 ?_ ?_)))))))
  · exact bz01
  · exact ⟨V1, rfl, bz_iff (by omega), h1⟩
theorem sp_isPerson {d : Nat} {M : MH} {V0 V : MVal} (hS : MS (msh M) (mrv M)) (hT : MT V0) (hP : PEq V0 V) {h : Int} (hh : inR h) : MVi mX7_isPerson (d + 3) [vp 94, vi h] M V (fun z V' => z = bz (0 ≤ h ∧ h < nP V0) ∧ RSt V0 V') := by
  refine mc_of (L := [vp 94, vi h]) (by decide +kernel) (Nat.le_of_ble_eq_true rfl) rfl ?_
  refine iX7_isPerson_0 ?_
  refine jX7_isPerson_1 hS (sp_reads hS hT hP) ?_
  intro V1 h1
  have := h1.2.2.1
  have := nP_le V0
  refine iX7_isPerson_4 (iX7_isPerson_5 (iX7_isPerson_6 (jX7_isPerson_7 hS (iX7_isPerson_10 (iX7_isPerson_11 (jX7_isPerson_12 (sp_X7_in (by omega) (by omega) (by omega)) (iX7_isPerson_15 ?_ ?_)))))))
  · exact bz01
  · exact ⟨V1, rfl, bz_iff (by omega), h1⟩
