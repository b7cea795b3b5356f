/-! THE PEOPLE ARE READ -/
def K1 (V : MVal) (k : Nat) : Prop := bt V 1 k = 111 ∨ bt V 1 k = 103 ∨ bt V 1 k = 108
def P1 (V : MVal) (k : Nat) : Prop := bt V 1 k = 45 ∨ 48 ≤ bt V 1 k ∧ bt V 1 k ≤ 55
def kdb (V : MVal) (k : Nat) : Int := if bt V 1 k = 111 then 0 else if bt V 1 k = 103 then 1 else 2
def plb (V : MVal) (k : Nat) : Int := stt (if bt V 1 k = 45 then -1 else bt V 1 k - 48)
abbrev plS (V : MVal) (k : Nat) : Int := stt (pl0 V k)
def RdF (V : MVal) (k : Nat) (M : MH) (W : MVal) : Out → MH → Prop := fun o M' =>
  (∃ h : Nat, o = .inl (some (vr (some h))) ∧ K1 V k ∧ P1 V (k + 1) ∧ TXE 6 M W M' ∧ mhn M' = mhn M + 1 ∧ mhs M' = mhs M + 2 ∧ h = mhn M ∧ msh M' h = (5, 2) ∧ miv M' h 0 = kdb V k ∧ miv M' h 1 = plb V (k + 1) ∧ miv M' 6 2 = ((k + 2 : Nat) : Int) ∧ (∀ p, p < mhn M → mrv M' p = mrv M p) ∧ ∀ p, p < mhn M → p ≠ 6 → miv M' p = W p)
  ∨ ∃ e c : Nat, o = .inr e ∧ (c = k ∧ ¬ K1 V k ∨ c = k + 1 ∧ K1 V k ∧ ¬ P1 V (k + 1)) ∧ TXE 6 M W M' ∧ mhn M' ≤ mhn M + 2 ∧ mhs M' ≤ mhs M + 9 ∧ msh M' e = (9, 7) ∧ miv M' e 6 = (c : Int)
set_option maxHeartbeats 4000000 in
theorem sp_reads2F {d k : Nat} {M : MH} {V W : MVal} (hS : CS M) (hT : MT V) (hC : CIt V W) (hl : LST M W 7) (hk : W 6 2 = k) (h9 : k < 900) (hm : 122 ≤ mhn M) (h1 : mhn M + 2 ≤ mNC) (h2 : mhs M + 9 ≤ mNS) : MC mX3_reads_2 (d + 6) [vp 6] (sI M W) (RdF V k M W) := by
  refine mc_of (L := [vp 6, vu, vu]) (by decide +kernel) (Nat.le_of_ble_eq_true rfl) rfl ?_
  have s3 : (msh M 6).1 = 2 := congrArg Prod.fst (hS.1 6 (by decide) (by decide))
  have hb := bt_rng hT (t := 1) (by decide)
  have hb0 := hb k
  have hb1 := hb (k + 1)
  generalize hW1 : u2 W 6 2 ((k : Int) + 1) = W1
  have t1 : TXE 6 M W (sI M W1) := by rw [← hW1]; exact TXE.at hl (by omega)
  have hl1 : LST M W1 7 := t1.2.2.2.2.2.2.2.1
  have w1q : ∀ p, p ≠ 6 → W1 p = W p := fun p hp => by rw [← hW1, u2_ne hp]
  have w13 : ∀ j, j ≠ 2 → W1 6 j = W 6 j := fun j hj => by rw [← hW1, u2_off hj]
  have hk1 : W1 6 2 = ((k + 1 : Nat) : Int) := by rw [← hW1, u2_at]; omega
  have cit : ∀ W2 : MVal, (∀ p, p ≠ 6 → W2 p = W p) → (∀ j, j ≠ 2 → W2 6 j = W 6 j) → CIt V W2 := fun W2 q1 q2 => by
    obtain ⟨c1, c2, c3, c4⟩ := hC
    exact ⟨by rw [q1 3 (by decide)]; exact c1, by rw [q1 5 (by decide)]; exact c2, by rw [q2 1 (by decide)]; exact c3, by rw [q1 8 (by decide)]; exact c4⟩
  have hC1 : CIt V W1 := cit W1 w1q w13
  -- a person at the new place
  have fin : ∀ (W2 : MVal) (pc : Nat) (z2 : Int) (L : List MV) (Q : Prop), (∀ p, p ≠ 6 → W2 p = W p) → (∀ j, j ≠ 2 → W2 6 j = W 6 j) → W2 6 2 = ((k + 2 : Nat) : Int) → K1 V k → P1 V (k + 1) → z2 = plb V (k + 1) → ∀ N : MH, (∀ p, p < mhn M → msh N p = msh M p ∧ mrv N p = mrv M p ∧ miv N p = W2 p) → msh N (mhn M) = (5, 2) → mhn N = mhn M + 1 → mhs N = mhs M + 2 → RdF V k M W (.inl (some (vr (some (mhn M))))) (sI N (u2 (u2 (miv N) (mhn M) 0 (kdb V k)) (mhn M) 1 z2)) := by
    intro W2 pc z2 L Q q1 q2 q3 q4 q5 q6 N wn wsh wmn wms
    refine Or.inl ⟨mhn M, rfl, q4, q5, ?_, wmn, wms, rfl, wsh, ?_, ?_, ?_, fun p hp => (wn p hp).2.1, fun p hp n => ?_⟩
    · refine TXE.cells hl (by show mhn M ≤ mhn N; omega) (by show mhs M ≤ mhs N; omega) (fun p hp => ⟨(wn p hp).1, (wn p hp).2.1⟩) (fun p hp n => ?_) (fun j hj => ?_) (by omega)
      · show u2 (u2 (miv N) (mhn M) 0 (kdb V k)) (mhn M) 1 z2 p = W p
        rw [u2_ne (by omega), u2_ne (by omega), (wn p hp).2.2]
        exact q1 p n
      · show u2 (u2 (miv N) (mhn M) 0 (kdb V k)) (mhn M) 1 z2 6 j = W 6 j
        rw [u2_ne (by omega), u2_ne (by omega), (wn 6 (by omega)).2.2]
        exact q2 j hj
    · show u2 (u2 (miv N) (mhn M) 0 (kdb V k)) (mhn M) 1 z2 (mhn M) 0 = _
      rw [u2_off (by decide), u2_at]
    · show u2 (u2 (miv N) (mhn M) 0 (kdb V k)) (mhn M) 1 z2 (mhn M) 1 = _
      rw [u2_at]; exact q6
    · show u2 (u2 (miv N) (mhn M) 0 (kdb V k)) (mhn M) 1 z2 6 2 = _
      rw [u2_ne (by omega), u2_ne (by omega), (wn 6 (by omega)).2.2]; exact q3
    · show u2 (u2 (miv N) (mhn M) 0 (kdb V k)) (mhn M) 1 z2 p = W p
      rw [u2_ne (by omega), u2_ne (by omega), (wn p hp).2.2]
      exact q1 p n
  have nw : ∀ W2 : MVal, (∀ p, p < mhn M → msh (wN (sI M W2) 5 2) p = msh M p ∧ mrv (wN (sI M W2) 5 2) p = mrv M p ∧ miv (wN (sI M W2) 5 2) p = W2 p) ∧ msh (wN (sI M W2) 5 2) (mhn M) = (5, 2) := fun W2 => ⟨fun p hp => ⟨msh_wN_ne (M := sI M W2) (Nat.ne_of_lt hp), mrv_wN_ne (M := sI M W2) (Nat.ne_of_lt hp), miv_wN_ne (M := sI M W2) (Nat.ne_of_lt hp)⟩, msh_wN (M := sI M W2)⟩
  -- the kind is read
  have kind : K1 V k → MW mX3_reads_2 (d + 6) 47 [vp 6, vi (bt V 1 k), vi (kdb V k)] [] (sI M W) (RdF V k M W) := by
    intro hK
    refine iX3_reads_2_47 ?_
    refine cX3_reads_2_48 hS (sp_goesOnF hS) ?_
    rintro W' rfl
    rw [hk, hW1]
    refine iX3_reads_2_51 ?_
    refine cX3_reads_2_52 hS (sp_hereF hS hT hC1 hk1 (by omega)) ?_
    rintro z W' ⟨rfl, rfl⟩
    refine iX3_reads_2_55 (iX3_reads_2_57 (by omega) (by omega) (fun g => ?_) (fun g => ?_))
    · -- the street
      refine iX3_reads_2_75 ?_
      refine cX3_reads_2_76 hS (sp_goesOnF hS) ?_
      rintro W' rfl
      rw [hk1]
      refine iX3_reads_2_79 (by show mhn M + 1 ≤ mNC; omega) (by show mhs M + 2 ≤ mNS; omega) (iX3_reads_2_82 (iX3_reads_2_83 (iX3_reads_2_84 ?_)))
      obtain ⟨wn, wsh⟩ := nw (u2 W1 6 2 (((k + 1 : Nat) : Int) + 1))
      have wmn : mhn (wN (sI M (u2 W1 6 2 (((k + 1 : Nat) : Int) + 1))) 5 2) = mhn M + 1 := rfl
      have wms : mhs (wN (sI M (u2 W1 6 2 (((k + 1 : Nat) : Int) + 1))) 5 2) = mhs M + 2 := rfl
      show MW mX3_reads_2 (d + 6) 86 _ [vi 8, vi (kdb V k), vp (mhn M), vp (mhn M)] _ _
      generalize wN (sI M (u2 W1 6 2 (((k + 1 : Nat) : Int) + 1))) 5 2 = N at wn wsh wmn wms
      refine iX3_reads_2_86 (sp_X9_init (d := d + 4) (M := N) (W := miv N) (by rw [wsh])) ?_
      rintro M' rfl
      refine mw_areturn ⟨dX3_reads_2_89, rfl⟩ rfl (Or.inl ⟨_, rfl⟩) (fin (u2 W1 6 2 (((k + 1 : Nat) : Int) + 1)) 0 8 [] True (fun p hp => by rw [u2_ne hp]; exact w1q p hp) (fun j hj => by rw [u2_off hj]; exact w13 j hj) (by rw [u2_at]; omega) hK (Or.inl g) ?_ N wn wsh wmn wms)
      unfold plb
      rw [if_pos g]; rfl
    · refine iX3_reads_2_60 (by show mhn M + 1 ≤ mNC; omega) (by show mhs M + 2 ≤ mNS; omega) (iX3_reads_2_63 (iX3_reads_2_64 (iX3_reads_2_65 (iX3_reads_2_66 ?_))))
      obtain ⟨wn, wsh⟩ := nw W1
      have wmn : mhn (wN (sI M W1) 5 2) = mhn M + 1 := rfl
      have wms : mhs (wN (sI M W1) 5 2) = mhs M + 2 := rfl
      have t2 : TXE 6 M W1 (wN (sI M W1) 5 2) := TXE.new hl1 (by omega)
      show MW mX3_reads_2 (d + 6) 68 _ [vi 7, vp 6, vi (kdb V k), vp (mhn M), vp (mhn M)] _ _
      generalize wN (sI M W1) 5 2 = N at wn wsh wmn wms t2
      have hS2 : CS N := ⟨fun q q1 q2 => ((wn q (by omega)).1).trans (hS.1 q q1 q2), fun q k q1 q2 q3 => by rw [(wn q (by omega)).2.1]; exact hS.2 q k q1 q2 q3⟩
      have hl2 : LST N (miv N) 7 := t2.2.2.2.2.2.2.2.1
      have hk2 : miv N 6 2 = ((k + 1 : Nat) : Int) := by rw [(wn 6 (by omega)).2.2]; exact hk1
      have hC2 : CIt V (miv N) := by
        obtain ⟨c1, c2, c3, c4⟩ := hC1
        exact ⟨by rw [(wn 3 (by omega)).2.2]; exact c1, by rw [(wn 5 (by omega)).2.2]; exact c2, by rw [(wn 6 (by omega)).2.2]; exact c3, by rw [(wn 8 (by omega)).2.2]; exact c4⟩
      show MW mX3_reads_2 (d + 6) 68 _ [vi 7, vp 6, vi (kdb V k), vp (mhn M), vp (mhn M)] (sI N (miv N)) _
      refine iX3_reads_2_68T (congrArg Prod.fst (hS2.1 6 (by decide) (by decide))) (sp_figureF (d := d) hS2 hT hC2 hk2 (by omega) (by omega) (by omega) (by omega) (most := 7) (by omega)) ?_ ?_
      · rintro v M' (⟨z2, e, g4, g5, g6, rfl⟩ | ⟨e, -⟩)
        rotate_left
        · cases e
        cases e
        show MW mX3_reads_2 (d + 6) 71 _ [vi z2, vi (kdb V k), vp (mhn M), vp (mhn M)] _ _
        refine iX3_reads_2_71 (sp_X9_init (d := d + 4) (M := N) (W := u2 (miv N) 6 2 (((k + 1 : Nat) : Int) + 1)) (by rw [wsh])) ?_
        rintro M' rfl
        have h3 : z2 = plb V (k + 1) := by
          unfold plb stt
          rw [if_neg g, if_neg (by omega)]; exact g4
        have e1 : sI N (u2 (u2 (u2 (miv N) 6 2 (((k + 1 : Nat) : Int) + 1)) (mhn M) 0 (kdb V k)) (mhn M) 1 z2) = sI (sI N (u2 (miv N) 6 2 (((k + 1 : Nat) : Int) + 1))) (u2 (u2 (miv (sI N (u2 (miv N) 6 2 (((k + 1 : Nat) : Int) + 1)))) (mhn M) 0 (kdb V k)) (mhn M) 1 z2) := rfl
        rw [e1]
        refine mw_areturn ⟨dX3_reads_2_74, rfl⟩ rfl (Or.inl ⟨_, rfl⟩) (fin (u2 W1 6 2 (((k + 1 : Nat) : Int) + 1)) 0 z2 [] True (fun p hp => by rw [u2_ne hp]; exact w1q p hp) (fun j hj => by rw [u2_off hj]; exact w13 j hj) (by rw [u2_at]; omega) hK (Or.inr (by omega)) h3 (sI N (u2 (miv N) 6 2 (((k + 1 : Nat) : Int) + 1))) (fun p hp => ⟨(wn p hp).1, (wn p hp).2.1, ?_⟩) wsh wmn wms)
        show u2 (miv N) 6 2 _ p = u2 W1 6 2 _ p
        by_cases e6 : p = 6
        · subst e6
          funext j
          unfold u2
          rw [(wn 6 hp).2.2]
        · rw [u2_ne e6, u2_ne e6, (wn p hp).2.2]
      · rintro a M' (⟨z, e, -⟩ | ⟨e, g4, rfl⟩)
        · cases e
        · cases e
          have t3 : TXE 6 N (miv N) (tornH (sI N (miv N)) ((k + 1 : Nat) : Int)) := TXE.torn hl2 (by omega)
          refine mx_leave (by intro x hx; cases hx) (Or.inr ⟨mhn N, k + 1, rfl, Or.inr ⟨rfl, hK, fun y => ?_⟩, (t1.tr t2 (by omega)).tr t3 (by omega), by show mhn N + 1 ≤ _; omega, by show mhs N + 7 ≤ _; omega, tornH_at.1, tornH_at.2⟩)
          rcases y with y | y
          · exact g y
          · exact g4 (by omega)
  refine iX3_reads_2_0 ?_
  refine cX3_reads_2_1 hS (sp_hereF hS hT hC hk (by omega)) ?_
  rintro z W' ⟨rfl, rfl⟩
  have join : ∀ z : Int, (K1 V k → z = kdb V k) → (¬ K1 V k → z = -1) → MW mX3_reads_2 (d + 6) 36 [vp 6, vi (bt V 1 k), vu] [vi z] (sI M W) (RdF V k M W) := by
    intro z q1 q2
    by_cases hK : K1 V k
    · have e := q1 hK
      have hz : 0 ≤ kdb V k ∧ kdb V k ≤ 2 := by unfold kdb; split <;> (try split) <;> omega
      subst e
      refine iX3_reads_2_36 (iX3_reads_2_37 (iX3_reads_2_38 (iX3_reads_2_39 (by omega) (by omega) (fun g => ?_) (fun g => ?_))))
      · exact kind hK
      · omega
    · have e := q2 hK
      subst e
      refine iX3_reads_2_36 (iX3_reads_2_37 (iX3_reads_2_38 (iX3_reads_2_39 (by omega) (by omega) (fun g => ?_) (fun g => ?_))))
      · exact absurd rfl g
      refine iX3_reads_2_42 ?_
      refine cX3_reads_2_43U hS (sp_tornF (d := d + 1) hS hm (by omega) (by omega)) ?_
      rintro r M' ⟨rfl, rfl⟩
      refine mw_athrow ⟨dX3_reads_2_46, rfl⟩ (by intro x hx; cases hx) (Or.inr ⟨mhn M, k, rfl, Or.inl ⟨rfl, hK⟩, TXE.torn hl (by omega), by show mhn M + 1 ≤ _; omega, by show mhs M + 7 ≤ _; omega, tornH_at.1, ?_⟩)
      show miv (tornH (sI M W) (W 6 2)) (mhn (sI M W)) 6 = (k : Int)
      rw [tornH_at.2]; exact hk
  unfold K1 kdb at join
  refine iX3_reads_2_4 (iX3_reads_2_5 (iX3_reads_2_6 (iX3_reads_2_8 (by omega) (by omega) (fun g1 => ?_) (fun g1 => ?_))))
  rotate_left
  · refine iX3_reads_2_11 (iX3_reads_2_12 ?_)
    exact join 0 (fun _ => by rw [if_pos g1]) (fun n => absurd (Or.inl g1) n)
  refine iX3_reads_2_15 (iX3_reads_2_16 (iX3_reads_2_18 (by omega) (by omega) (fun g2 => ?_) (fun g2 => ?_)))
  rotate_left
  · refine iX3_reads_2_21 (iX3_reads_2_22 ?_)
    exact join 1 (fun _ => by rw [if_neg g1, if_pos g2]) (fun n => absurd (Or.inr (Or.inl g2)) n)
  refine iX3_reads_2_25 (iX3_reads_2_26 (iX3_reads_2_28 (by omega) (by omega) (fun g3 => ?_) (fun g3 => ?_)))
  rotate_left
  · refine iX3_reads_2_31 (iX3_reads_2_32 ?_)
    exact join 2 (fun _ => by rw [if_neg g1, if_neg g2]) (fun n => absurd (Or.inr (Or.inr g3)) n)
  refine iX3_reads_2_35 ?_
  exact join (-1) (fun n => by rcases n with n | n | n <;> contradiction) (fun _ => rfl)
theorem sp_readsF {d k : Nat} {M : MH} {V W : MVal} (hS : CS M) (hT : MT V) (hC : CIt V W) (hl : LST M W 7) (hk : W 6 2 = k) (h9 : k < 900) (hm : 122 ≤ mhn M) (h1 : mhn M + 2 ≤ mNC) (h2 : mhs M + 9 ≤ mNS) : MC mX3_reads (d + 7) [vp 6] (sI M W) (RdF V k M W) := by
  refine mc_of (L := [vp 6]) (by decide +kernel) (Nat.le_of_ble_eq_true rfl) rfl ?_
  refine iX3_reads_0 (iX3_reads_1T (congrArg Prod.fst (hS.1 6 (by decide) (by decide))) (sp_reads2F (d := d) hS hT hC hl hk h9 hm h1 h2) ?_ ?_)
  · intro v M' h
    rcases h with h | ⟨e, c, h, -⟩
    · obtain ⟨h0, e, h⟩ := h
      cases e
      exact mw_areturn ⟨dX3_reads_4, rfl⟩ rfl (Or.inl ⟨_, rfl⟩) (Or.inl ⟨h0, rfl, h⟩)
    · cases h
  · intro a M' h
    exact mx_leave (by intro x hx; cases hx) h
/-! the plain side -/
def posF (j : Nat) : Nat := 2 * j
def FI (V : MVal) (j : Nat) : Prop := j ≤ 8 ∧ pF (bt V 1) (tn V 1) 9 0 = pF (bt V 1) (tn V 1) (9 - j) j
theorem FI.z {V : MVal} : FI V 0 := ⟨by decide, rfl⟩
theorem FI.e {V : MVal} {j : Nat} (h : FI V j) (hp : tn V 1 ≤ posF j) : fP V = -1 ∧ nP V = j := by
  obtain ⟨h1, h2⟩ := h
  unfold posF at hp
  unfold fP nP
  rw [h2, show 9 - j = (8 - j) + 1 by omega]
  unfold pF
  rw [if_pos hp]
  exact ⟨rfl, rfl⟩
theorem FI.f {V : MVal} {j : Nat} (h : FI V j) (hp : posF j < tn V 1) : ((j = 8 ∨ ¬ K1 V (2 * j)) → fP V = 2 * j ∧ nP V = 0) ∧ (j < 8 → K1 V (2 * j) → ¬ P1 V (2 * j + 1) → fP V = 2 * j + 1 ∧ nP V = 0) ∧ (j < 8 → K1 V (2 * j) → P1 V (2 * j + 1) → FI V (j + 1)) := by
  obtain ⟨h1, h2⟩ := h
  unfold posF at hp
  unfold K1 P1 fP nP FI
  generalize pF (bt V 1) (tn V 1) 9 0 = P0 at h2
  rw [show 9 - j = (8 - j) + 1 by omega] at h2
  rw [pF, if_neg (by omega)] at h2
  refine ⟨fun c => ?_, fun c0 c1 c2 => ?_, fun c0 c1 c2 => ⟨by omega, ?_⟩⟩
  · rw [if_pos (by omega)] at h2
    rw [h2]
    exact ⟨rfl, rfl⟩
  · rw [if_neg (by omega), if_pos (by omega)] at h2
    rw [h2]
    exact ⟨rfl, rfl⟩
  · rw [if_neg (by omega), if_neg (by omega)] at h2
    rw [h2, show 9 - (j + 1) = 8 - j by omega]
/-- j people have been read -/
def StF (V : MVal) (M0 : MH) (W0 : MVal) (j : Nat) (M : MH) : Prop := TXE 6 M0 W0 M ∧ mhn M ≤ mhn M0 + j + (if le M 7 = 0 then 0 else 1) ∧ mhs M ≤ mhs M0 + 2 * j + (if le M 7 = 0 then 0 else 10) ∧ miv M 6 2 = (posF j : Int) ∧ LC M (miv M) 7 (5, 2) j ∧ ∀ i, i < j → miv M (el M 7 i) 0 = kd V i ∧ miv M (el M 7 i) 1 = plS V i
def TeF (V : MVal) (M0 : MH) (W0 : MVal) (e : Nat) (M : MH) : Prop := TXE 6 M0 W0 M ∧ mhn M ≤ mhn M0 + 12 ∧ mhs M ≤ mhs M0 + 50 ∧ msh M e = (9, 7) ∧ miv M e 6 = fP V ∧ nP V = 0
theorem sp_X3_between {d : Nat} {M : MH} {W : MVal} : MVi mX3_between d [vp 6] M W (fun z W' => z = -1 ∧ W = W') := by
  refine mc_of (L := [vp 6]) (by decide +kernel) (Nat.le_of_ble_eq_true rfl) rfl ?_
  refine iX3_between_0 (iX3_between_1 ?_)
  exact ⟨W, rfl, rfl, rfl⟩
set_option maxHeartbeats 8000000 in
theorem sp_nextF {d j : Nat} {M0 M : MH} {V W0 X : MVal} {R : RM} (hJ : CJ V R X M0 W0) (hL : Lim R) (hs : StF V M0 W0 j M) (hi : FI V j) (hp : posF j < tn V 1) : MC mX1_next (d + 8) [vp 6] (sI M (miv M)) (fun o M' => (o = .inl none ∧ StF V M0 W0 (j + 1) M' ∧ FI V (j + 1)) ∨ ∃ e, o = .inr e ∧ TeF V M0 W0 e M') := by
  refine mc_of (L := [vp 6]) (by decide +kernel) (Nat.le_of_ble_eq_true rfl) rfl ?_
  obtain ⟨s1, s2, s3, s4, s5, s6⟩ := hs
  have hT := hJ.mi.t
  have hS := s1.cs hJ (Or.inr rfl)
  have hC := s1.t hJ (Or.inr rfl)
  have hl : LST M (miv M) 7 := s1.2.2.2.2.2.2.2.1
  have j8 := hi.1
  have hr := hJ.r
  have hm : 122 ≤ mhn M := Nat.le_trans hr.1 s1.1
  have b1 : mhn M ≤ mhn M0 + 9 ∧ mhs M ≤ mhs M0 + 26 := by
    constructor
    · split at s2 <;> omega
    · split at s3 <;> omega
  have n1 : mhn M + 3 ≤ mNC := by
    have := hr.2.1
    have := hL.1
    show mhn M + 3 ≤ 603072
    omega
  have n2 : mhs M + 21 ≤ mNS := by
    have := hr.2.2
    have := hL.2
    show mhs M + 21 ≤ 7262314
    omega
  have k3 : (msh M 7).1 = 3 := congrArg Prod.fst (hS.1 7 (by decide) (by decide))
  obtain ⟨ff1, ff2, ff3⟩ := hi.f hp
  have wk : miv M 6 2 = ((2 * j : Nat) : Int) := s4
  have go : MW mX1_next (d + 8) 44 [vp 6] [] (sI M (miv M)) (fun o M' => (o = .inl none ∧ StF V M0 W0 (j + 1) M' ∧ FI V (j + 1)) ∨ ∃ e, o = .inr e ∧ TeF V M0 W0 e M') := by
    have e4 : miv M 7 2 = (j : Int) := s5.1
    refine iX1_next_44 (cX1_next_45F hS ?_)
    refine cX1_next_48F hS (sp_J2_size k3) ?_
    rintro z W' ⟨rfl, rfl⟩
    rw [e4]
    refine iX1_next_51 (iX1_next_53 (by omega) (by omega) (fun g1 => ?_) (fun g1 => ?_))
    rotate_left
    · refine iX1_next_56 ?_
      refine cX1_next_57FU hS (sp_tornF (d := d + 3) hS hm (by omega) (by omega)) ?_
      rintro r M' ⟨rfl, rfl⟩
      refine mw_athrow ⟨dX1_next_60, rfl⟩ (by intro x hx; cases hx) (Or.inr ⟨mhn M, rfl, s1.tr (TXE.torn hl (by omega)) (by omega), by show mhn M + 1 ≤ _; omega, by show mhs M + 7 ≤ _; omega, tornH_at.1, ?_, (ff1 (Or.inl (by omega))).2⟩)
      show miv (tornH (sI M (miv M)) (miv M 6 2)) (mhn (sI M (miv M))) 6 = _
      rw [tornH_at.2, wk, (ff1 (Or.inl (by omega))).1]; omega
    have g1 : j ≠ 8 := fun e => g1 (by omega)
    refine iX1_next_61 (cX1_next_62F hS (iX1_next_65 (iX1_next_66_2T (congrArg Prod.fst (hS.1 6 (by decide) (by decide))) (sp_readsF (d := d) hS hT hC hl wk (by omega) hm (by omega) (by omega)) ?_ ?_)))
    rotate_left
    · rintro a M' (⟨h0, e, -⟩ | ⟨e0, c, e, h1, h2, h3, h4, h5, h6⟩)
      · cases e
      · cases e
        refine mx_leave (by intro x hx; cases hx) (Or.inr ⟨_, rfl, s1.tr h2 (by omega), by omega, by omega, h5, ?_, ?_⟩)
        · rw [h6]
          rcases h1 with ⟨y1, y2⟩ | ⟨y1, y2, y3⟩
          · rw [(ff1 (Or.inr y2)).1]; omega
          · rw [(ff2 (by omega) y2 y3).1]; omega
        · rcases h1 with ⟨y1, y2⟩ | ⟨y1, y2, y3⟩
          · exact (ff1 (Or.inr y2)).2
          · exact (ff2 (by omega) y2 y3).2
    rintro v M' (⟨h0, e, h1, h2, h3, h4, h5, h6, h7, h8, h9, h10, h11, h12⟩ | ⟨e0, c, e, -⟩)
    rotate_left
    · cases e
    cases e
    show MW mX1_next (d + 8) 69 [vp 6] [vp h0, vp 7] (sI M' (miv M')) _
    have t2 := s1.tr h3 (by omega)
    have hS2 := t2.cs hJ (Or.inr rfl)
    have l2 : LST M' (miv M') 7 := h3.2.2.2.2.2.2.2.1
    have le2 : le M' 7 = le M 7 := by unfold le; rw [h11 7 (by omega)]
    have c4 : LC M' (miv M') 7 (5, 2) j ∧ ∀ k, k < j → el M' 7 k = el M 7 k := s5.same hl (by rw [h11 7 (by omega)]) (by rw [h12 7 (by omega) (by decide)]) h3.1 h3.2.2.1 (fun _ z => h11 _ z)
    refine iX1_next_69 (M := sI M' (miv M')) (congrArg Prod.fst (hS2.1 7 (by decide) (by decide))) (sp_J2_add (d := d + 3) (M := M') (W := miv M') (a := 7) (n := j) (q := h0) (C0 := "SoldWithIt$Person") (congrArg Prod.fst (hS2.1 7 (by decide) (by decide))) (by omega) l2.1 ?_ c4.1.1 (by omega) (cls_of (ci := 5) rfl (by rw [h7])) (lw_b q1611 rfl) (by omega) (by omega) (by omega)) ?_
    · rcases l2.2.1 with ⟨y1, y2⟩ | ⟨y1, y2, y3⟩
      · refine Or.inl ⟨y1, ?_⟩
        have := c4.1.1
        omega
      · exact Or.inr ⟨by omega, y2, by omega, y3⟩
    intro z M3 hA
    have t3 := hA.txe (a := 6) l2 (by omega) (by omega) (by omega)
    obtain ⟨a1, a2, a3, a4, a5, a6, a7, a8⟩ := hA.lc c4.1 (q := h0) ⟨by omega, by omega, h7⟩
    refine iX1_next_72 (mw_vreturn ⟨dX1_next_73, rfl⟩ rfl (Or.inl ⟨rfl, ⟨t2.tr t3 (by omega), ?_, ?_, ?_, a1, fun i hi2 => ?_⟩, ff3 (by omega) h1 h2⟩))
    · rw [if_neg a7]
      by_cases z0 : le M 7 = 0
      · rw [if_pos z0] at s2; omega
      · rw [if_neg z0] at s2
        have := (a5 (by rw [le2]; exact z0)).1
        omega
    · rw [if_neg a7]
      by_cases z0 : le M 7 = 0
      · rw [if_pos z0] at s3; omega
      · rw [if_neg z0] at s3
        have := (a5 (by rw [le2]; exact z0)).2
        omega
    · rw [a8 6 (by decide) (by omega), h10]
      unfold posF
      omega
    · by_cases e : i = j
      · subst e
        rw [a3, a8 h0 (by omega) (by omega), h8, h9]
        exact ⟨rfl, rfl⟩
      · have b := (s5.2 i (by omega)).2
        rw [a2 i (by omega), c4.2 i (by omega), a8 _ (by omega) (by omega), h12 _ b.2.1 (by omega)]
        exact s6 i (by omega)
  refine iX1_next_0 (cX1_next_1F hS ?_)
  refine cX1_next_4F hS (sp_J2_isEmpty k3 ⟨hl.2.2.1, hl.2.2.2⟩) ?_
  rintro z W' ⟨rfl, rfl⟩
  refine iX1_next_7 bzR (fun h0 => ?_) (fun h0 => ?_)
  · exact go
  refine iX1_next_10 ?_
  refine cX1_next_11F hS (sp_X3_between) ?_
  rintro z W' ⟨rfl, rfl⟩
  refine iX1_next_14 (iX1_next_15 (by omega) (by omega) (fun g2 => ?_) (fun g2 => ?_))
  · exact go
  · omega
