/-! reading anew leaves the search's row as it is -/
set_option maxHeartbeats 4000000 in
theorem sp_reads2 {d : Nat} {M : MH} {V0 V : MVal} (hS : MS (msh M) (mrv M)) (hT : MT V0) (hP : PEq V0 V) : MVv mX7_reads (d + 2) [vp 94] M V (fun V' => RSt V0 V' ∧ V' 112 = V 112) := by
  refine mc_of (L := [vp 94, vu, vu]) (by decide +kernel) (Nat.le_of_ble_eq_true rfl) rfl ?_
  refine iX7_reads_0 ?_
  refine jX7_reads_1 hS (sp_readsHouses hS (hP.MT hT)) ?_
  rintro z V1 ⟨-, a2, a3, a4, a5⟩
  rw [hP.nH] at a2 a3
  rw [hP.ow, hP.pr] at a3
  have hP1 : PEq V0 V1 := ⟨fun q hq => by rw [a4 q (fun e => by rw [e] at hq; cases hq) (fun e => by rw [e] at hq; cases hq) (fun e => by rw [e] at hq; cases hq)]; exact hP.1 q hq, by rw [a5 9 (by decide)]; exact hP.2.1, by rw [a5 23 (by decide)]; exact hP.2.2.1, by rw [a5 32 (by decide)]; exact hP.2.2.2⟩
  refine iX7_reads_4 (iX7_reads_5 ?_)
  refine jX7_reads_6 hS (sp_readsPeople hS (hP1.MT hT)) ?_
  rintro z2 V2 ⟨-, b2, b3, b4, b5⟩
  rw [hP1.nP] at b2 b3
  rw [hP1.kd, hP1.pl0] at b3
  have hP2 : PEq V0 V2 := ⟨fun q hq => by rw [b4 q (fun e => by rw [e] at hq; cases hq) (fun e => by rw [e] at hq; cases hq) (fun e => by rw [e] at hq; cases hq)]; exact hP1.1 q hq, by rw [b5 9 (by decide)]; exact hP1.2.1, by rw [b5 23 (by decide)]; exact hP1.2.2.1, by rw [b5 32 (by decide)]; exact hP1.2.2.2⟩
  have c2 : V2 94 2 = nH V0 := by rw [b5 2 (by decide)]; exact a2
  have c97 : V2 97 = V1 97 := b4 97 (by decide) (by decide) (by decide)
  have c98 : V2 98 = V1 98 := b4 98 (by decide) (by decide) (by decide)
  have c112 : V2 112 = V 112 := by rw [b4 112 (by decide) (by decide) (by decide), a4 112 (by decide) (by decide) (by decide)]
  have hn8 := nH_le V0
  have hp8 := nP_le V0
  refine iX7_reads_9 (iX7_reads_10 (iX7_reads_11 ?_))
  have loop : ∀ f k : Nat, ∀ (y : Int) (W : MVal), k + f = nP V0 → y = k → PEq V0 W → W 94 2 = nH V0 → W 94 5 = nP V0 → W 97 = V1 97 → W 98 = V1 98 → W 112 = V 112 → (∀ j, j < nP V0 → W 99 j = kd V0 j ∧ W 100 j = if j < k then pl V0 j else pl0 V0 j) → MW mX7_reads (d + 2) 12 [vp 94, vi z2, vi y] [] (sI M W) (Vv M (fun V' => RSt V0 V' ∧ V' 112 = V 112)) := by
    intro f
    induction f with
    | zero =>
      intro k y W h1 h2 h3 h4 h5 h6 h7 h9 h8
      refine iX7_reads_12 (iX7_reads_13 (jX7_reads_14 hS (iX7_reads_17 (by omega) (by omega) (fun g => ?_) (fun g => ?_))))
      · refine iX7_reads_55 ?_
        refine ⟨W, rfl, ⟨h3, h4, h5, fun j hj => ?_, fun j hj => ?_⟩, h9⟩
        · rw [h6, h7]; exact a3 j hj
        · have := h8 j hj
          rw [if_pos (by omega)] at this
          exact this
      · omega
    | succ f ih =>
      intro k y W h1 h2 h3 h4 h5 h6 h7 h9 h8
      subst h2
      obtain ⟨k1, k2⟩ := h8 k (by omega)
      rw [if_neg (by omega)] at k2
      have r0 := pl0_rng (V := V0) (j := k) (by omega)
      have ek : ((k : Int)).toNat = k := by omega
      have fin : ∀ x : Int, x = pl V0 k → MW mX7_reads (d + 2) 48 [vp 94, vi z2, vi k] [vi x, vi k, vp 100] (sI M W) (Vv M (fun V' => RSt V0 V' ∧ V' 112 = V 112)) := by
        intro x hx
        refine jX7_reads_48 hS ⟨by omega, by omega⟩ (iX7_reads_49 (iX7_reads_52 ?_))
        rw [ek]
        refine ih (k + 1) _ _ (by omega) (by omega) (h3.scr rfl (by decide)) (by rw [u2_ne (by decide)]; exact h4) (by rw [u2_ne (by decide)]; exact h5) (by rw [u2_ne (by decide)]; exact h6) (by rw [u2_ne (by decide)]; exact h7) (by rw [u2_ne (by decide)]; exact h9) (fun j hj => ?_)
        obtain ⟨m1, m2⟩ := h8 j hj
        rw [u2_ne (by decide)]
        refine ⟨m1, ?_⟩
        by_cases e : j = k
        · subst e
          rw [u2_at, if_pos (by omega)]; exact hx
        · rw [u2_off e, m2]
          by_cases e2 : j < k
          · rw [if_pos e2, if_pos (by omega)]
          · rw [if_neg e2, if_neg (by omega)]
      refine iX7_reads_12 (iX7_reads_13 (jX7_reads_14 hS (iX7_reads_17 (by omega) (by omega) (fun g => ?_) (fun g => ?_))))
      · omega
      · refine iX7_reads_20 (jX7_reads_21 hS (iX7_reads_24 (iX7_reads_25 (jX7_reads_26 hS (iX7_reads_29 (jX7_reads_30 hS ⟨by omega, by omega⟩ ?_))))))
        rw [ek, k2]
        refine iX7_reads_31 (jX7_reads_32 hS (iX7_reads_35 (by omega) (by omega) (fun g2 => ?_) (fun g2 => ?_)))
        · refine iX7_reads_47 ?_
          exact fin _ (by unfold pl; rw [if_neg (by omega)])
        · refine iX7_reads_38 (jX7_reads_39 hS (iX7_reads_42 (jX7_reads_43 hS ⟨by omega, by omega⟩ (iX7_reads_44 ?_))))
          rw [ek, k2]
          exact fin _ (by unfold pl; rw [if_pos (by omega)])
  refine loop (nP V0) 0 0 V2 (by omega) rfl hP2 c2 b2 c97 c98 c112 (fun j hj => ?_)
  rw [if_neg (by omega)]
  exact b3 j hj
set_option maxHeartbeats 4000000 in
theorem sp_lays2 {d : Nat} {M : MH} {V0 V : MVal} (hS : MS (msh M) (mrv M)) (hI : MI V0) (hP : PEq V0 V) {m : Int} (hm : 0 ≤ m ∧ m ≤ 12) : MVv mX7_lays (d + 3) [vp 94, vi m] M V (fun V' => RN V0 (pl V0) m.toNat V' ∧ V' 112 = V 112) := by
  refine mc_of (L := [vp 94, vi m, vu]) (by decide +kernel) (Nat.le_of_ble_eq_true rfl) rfl ?_
  refine iX7_lays_0 ?_
  refine jX7_lays_1 hS (sp_reads2 hS hI.t hP) ?_
  rintro V1 ⟨hR, c112⟩
  refine iX7_lays_4 (iX7_lays_5 ?_)
  have hp8 := nP_le V0
  have loop : ∀ f k : Nat, ∀ (W : MVal), k + f = nP V0 → RSt V0 W → W 112 = V 112 → (∀ p, p < k → W 104 p = pl V0 p) → MW mX7_lays (d + 3) 6 [vp 94, vi m, vi k] [] (sI M W) (Vv M (fun V' => RN V0 (pl V0) m.toNat V' ∧ V' 112 = V 112)) := by
    intro f
    induction f with
    | zero =>
      intro k W h1 h2 h9 h3
      have := h2.2.2.1
      refine iX7_lays_6 (iX7_lays_7 (jX7_lays_8 hS (iX7_lays_11 (by omega) (by omega) (fun g => ?_) (fun g => ?_))))
      · refine iX7_lays_32 (iX7_lays_33 ?_)
        refine jX7_lays_34 hS (sp_runs hS hI h2 (WR.pl V0) (fun p hp => h3 p (by omega)) hm) ?_
        rintro V2 ⟨hf, h⟩
        refine iX7_lays_37 ?_
        exact ⟨V2, rfl, h, by rw [hf.1 112 (by decide) (by decide) (by decide) (by decide) (by decide)]; exact h9⟩
      · omega
    | succ f ih =>
      intro k W h1 h2 h9 h3
      have := h2.2.2.1
      have ek : ((k : Int)).toNat = k := by omega
      refine iX7_lays_6 (iX7_lays_7 (jX7_lays_8 hS (iX7_lays_11 (by omega) (by omega) (fun g => ?_) (fun g => ?_))))
      · omega
      · refine iX7_lays_14 (jX7_lays_15 hS (iX7_lays_18 (iX7_lays_19 (jX7_lays_20 hS (iX7_lays_23 (jX7_lays_24 hS ⟨by omega, by omega⟩ ?_))))))
        rw [ek, (h2.2.2.2.2 k (by omega)).2]
        refine jX7_lays_25 hS ⟨by omega, by omega⟩ (iX7_lays_26 (iX7_lays_29 ?_))
        rw [ek]
        refine ih (k + 1) _ (by omega) h2.w104 (by rw [u2_ne (by decide)]; exact h9) (fun p hp => ?_)
        by_cases e : p = k
        · subst e; rw [u2_at]
        · rw [u2_off e]; exact h3 p (by omega)
  exact loop (nP V0) 0 V1 (by omega) hR c112 (fun p hp => absurd hp (by omega))
