/-! THE STREET IS READ -/
/-- a house was read from the place k on, or the text is torn at c -/
def RdR (V : MVal) (k : Nat) (M : MH) (W : MVal) : Out → MH → Prop := fun o M' =>
  (∃ h : Nat, o = .inl (some (vr (some h))) ∧ (48 ≤ bt V 0 k ∧ bt V 0 k ≤ 55) ∧ (48 ≤ bt V 0 (k + 1) ∧ bt V 0 (k + 1) ≤ 57) ∧ TXE 3 M W M' ∧ mhn M' = mhn M + 1 ∧ mhs M' = mhs M + 2 ∧ h = mhn M ∧ msh M' h = (4, 2) ∧ miv M' h 0 = bt V 0 k - 48 ∧ miv M' h 1 = bt V 0 (k + 1) - 48 ∧ miv M' 3 2 = ((k + 2 : Nat) : Int) ∧ (∀ p, p < mhn M → mrv M' p = mrv M p) ∧ ∀ p, p < mhn M → p ≠ 3 → miv M' p = W p)
  ∨ ∃ e c : Nat, o = .inr e ∧ (c = k ∧ ¬ (48 ≤ bt V 0 k ∧ bt V 0 k ≤ 55) ∨ c = k + 1 ∧ (48 ≤ bt V 0 k ∧ bt V 0 k ≤ 55) ∧ ¬ (48 ≤ bt V 0 (k + 1) ∧ bt V 0 (k + 1) ≤ 57)) ∧ TXE 3 M W M' ∧ mhn M' ≤ mhn M + 2 ∧ mhs M' ≤ mhs M + 9 ∧ msh M' e = (9, 7) ∧ miv M' e 6 = (c : Int)
set_option maxHeartbeats 4000000 in
theorem sp_reads2R {d k : Nat} {M : MH} {V W : MVal} (hS : CS M) (hT : MT V) (hC : CIt V W) (hl : LST M W 4) (hk : W 3 2 = k) (h9 : k < 900) (hm : 122 ≤ mhn M) (h1 : mhn M + 2 ≤ mNC) (h2 : mhs M + 9 ≤ mNS) : MC mX2_reads_2 (d + 6) [vp 3] (sI M W) (RdR V k M W) := by
  refine mc_of (L := [vp 3, vu]) (by decide +kernel) (Nat.le_of_ble_eq_true rfl) rfl ?_
  have s3 : (msh M 3).1 = 1 := congrArg Prod.fst (hS.1 3 (by decide) (by decide))
  refine iX2_reads_2_0 (iX2_reads_2_1 (iX2_reads_2_3T s3 (sp_figureR (d := d) hS hT hC hk (by omega) hm (by omega) (by omega) (most := 7) (by omega)) ?_ ?_))
  rotate_left
  · rintro a M' (⟨z, e, -⟩ | ⟨e, g1, rfl⟩)
    · cases e
    · cases e
      refine mx_leave (by intro x hx; cases hx) (Or.inr ⟨mhn M, k, rfl, Or.inl ⟨rfl, by omega⟩, TXE.torn hl (by omega), by show mhn M + 1 ≤ _; omega, by show mhs M + 7 ≤ _; omega, tornH_at.1, tornH_at.2⟩)
  rintro v M' (⟨z, e, g1, g2, g3, rfl⟩ | ⟨e, -⟩)
  rotate_left
  · cases e
  cases e
  show MW mX2_reads_2 (d + 6) 6 [vp 3, vu] [vi z] _ _
  generalize hW1 : u2 W 3 2 ((k : Int) + 1) = W1
  have t1 : TXE 3 M W (sI M W1) := by rw [← hW1]; exact TXE.at hl (by omega)
  have hl1 : LST M W1 4 := t1.2.2.2.2.2.2.2.1
  refine iX2_reads_2_6 (iX2_reads_2_7 (M := sI M W1) (by show mhn M + 1 ≤ mNC; omega) (by show mhs M + 2 ≤ mNS; omega) ?_)
  show MW mX2_reads_2 (d + 6) 10 [vp 3, vi z] [vp (mhn M)] (wN (sI M W1) 4 2) _
  have t2 : TXE 3 M W1 (wN (sI M W1) 4 2) := TXE.new hl1 (by omega)
  have wn : ∀ p, p < mhn M → msh (wN (sI M W1) 4 2) p = msh M p ∧ mrv (wN (sI M W1) 4 2) p = mrv M p ∧ miv (wN (sI M W1) 4 2) p = W1 p := fun p hp => ⟨msh_wN_ne (M := sI M W1) (Nat.ne_of_lt hp), mrv_wN_ne (M := sI M W1) (Nat.ne_of_lt hp), miv_wN_ne (M := sI M W1) (Nat.ne_of_lt hp)⟩
  have wsh : msh (wN (sI M W1) 4 2) (mhn M) = (4, 2) := msh_wN (M := sI M W1)
  have wmn : mhn (wN (sI M W1) 4 2) = mhn M + 1 := rfl
  have wms : mhs (wN (sI M W1) 4 2) = mhs M + 2 := rfl
  generalize wN (sI M W1) 4 2 = M2 at t2 wn wsh wmn wms
  have hS2 : CS M2 := ⟨fun q q1 q2 => ((wn q (by omega)).1).trans (hS.1 q q1 q2), fun q k q1 q2 q3 => by rw [(wn q (by omega)).2.1]; exact hS.2 q k q1 q2 q3⟩
  have w1q : ∀ p, p ≠ 3 → W1 p = W p := fun p hp => by rw [← hW1, u2_ne hp]
  have w13 : ∀ j, j ≠ 2 → W1 3 j = W 3 j := fun j hj => by rw [← hW1, u2_off hj]
  have hC2 : CIt V (miv M2) := by
    obtain ⟨c1, c2, c3, c4⟩ := hC
    exact ⟨by rw [(wn 3 (by omega)).2.2, w13 1 (by decide)]; exact c1, by rw [(wn 5 (by omega)).2.2, w1q 5 (by decide)]; exact c2, by rw [(wn 6 (by omega)).2.2, w1q 6 (by decide)]; exact c3, by rw [(wn 8 (by omega)).2.2, w1q 8 (by decide)]; exact c4⟩
  have hk2 : miv M2 3 2 = ((k + 1 : Nat) : Int) := by rw [(wn 3 (by omega)).2.2, ← hW1, u2_at]; omega
  have hl2 : LST M2 (miv M2) 4 := t2.2.2.2.2.2.2.2.1
  refine iX2_reads_2_10 (iX2_reads_2_11 (iX2_reads_2_12 (iX2_reads_2_13 ?_)))
  show MW mX2_reads_2 (d + 6) 15 [vp 3, vi z] [vi 9, vp 3, vi z, vp (mhn M), vp (mhn M)] (sI M2 (miv M2)) _
  have s32 : (msh M2 3).1 = 1 := congrArg Prod.fst (hS2.1 3 (by decide) (by decide))
  refine iX2_reads_2_15T s32 (sp_figureR (d := d) hS2 hT hC2 hk2 (by omega) (by omega) (by omega) (by omega) (most := 9) (by omega)) ?_ ?_
  rotate_left
  · rintro a M' (⟨z, e, -⟩ | ⟨e, g4, rfl⟩)
    · cases e
    · cases e
      have t3 : TXE 3 M2 (miv M2) (tornH (sI M2 (miv M2)) ((k + 1 : Nat) : Int)) := TXE.torn hl2 (by omega)
      refine mx_leave (by intro x hx; cases hx) (Or.inr ⟨mhn M2, k + 1, rfl, Or.inr ⟨rfl, by omega, by omega⟩, (t1.tr t2 (by omega)).tr t3 (by omega), by show mhn M2 + 1 ≤ _; omega, by show mhs M2 + 7 ≤ _; omega, tornH_at.1, tornH_at.2⟩)
  rintro v M' (⟨z2, e, g4, g5, g6, rfl⟩ | ⟨e, -⟩)
  rotate_left
  · cases e
  cases e
  show MW mX2_reads_2 (d + 6) 18 [vp 3, vi z] [vi z2, vi z, vp (mhn M), vp (mhn M)] _ _
  have t3 : TXE 3 M2 (miv M2) (sI M2 (u2 (miv M2) 3 2 (((k + 1 : Nat) : Int) + 1))) := TXE.at hl2 (by omega)
  refine iX2_reads_2_18 (sp_X10_init (d := d + 4) (M := M2) (W := u2 (miv M2) 3 2 (((k + 1 : Nat) : Int) + 1)) (by rw [wsh])) ?_
  rintro M' rfl
  refine mw_areturn ⟨dX2_reads_2_21, rfl⟩ rfl (Or.inl ⟨_, rfl⟩) (Or.inl ⟨mhn M, rfl, by omega, by omega, ?_, wmn, wms, rfl, wsh, ?_, ?_, ?_, fun p hp => (wn p hp).2.1, fun p hp n => ?_⟩)
  · refine TXE.cells hl (by show mhn M ≤ mhn M2; omega) (by show mhs M ≤ mhs M2; omega) (fun p hp => ⟨(wn p hp).1, (wn p hp).2.1⟩) (fun p hp n => ?_) (fun j hj => ?_) (by omega)
    · show u2 (u2 (u2 (miv M2) 3 2 _) (mhn M) 0 z) (mhn M) 1 z2 p = W p
      rw [u2_ne (by omega), u2_ne (by omega), u2_ne n, (wn p hp).2.2]
      exact w1q p n
    · show u2 (u2 (u2 (miv M2) 3 2 _) (mhn M) 0 z) (mhn M) 1 z2 3 j = W 3 j
      rw [u2_ne (by omega), u2_ne (by omega), u2_off hj, (wn 3 (by omega)).2.2]
      exact w13 j hj
  · show u2 (u2 _ (mhn M) 0 z) (mhn M) 1 z2 (mhn M) 0 = _
    rw [u2_off (by decide), u2_at]; exact g1
  · show u2 (u2 _ (mhn M) 0 z) (mhn M) 1 z2 (mhn M) 1 = _
    rw [u2_at]; exact g4
  · show u2 (u2 (u2 (miv M2) 3 2 _) (mhn M) 0 z) (mhn M) 1 z2 3 2 = _
    rw [u2_ne (by omega), u2_ne (by omega), u2_at]; omega
  · show u2 (u2 (u2 (miv M2) 3 2 _) (mhn M) 0 z) (mhn M) 1 z2 p = W p
    rw [u2_ne (by omega), u2_ne (by omega), u2_ne n, (wn p hp).2.2]
    exact w1q p n
theorem sp_readsR {d k : Nat} {M : MH} {V W : MVal} (hS : CS M) (hT : MT V) (hC : CIt V W) (hl : LST M W 4) (hk : W 3 2 = k) (h9 : k < 900) (hm : 122 ≤ mhn M) (h1 : mhn M + 2 ≤ mNC) (h2 : mhs M + 9 ≤ mNS) : MC mX2_reads (d + 7) [vp 3] (sI M W) (RdR V k M W) := by
  refine mc_of (L := [vp 3]) (by decide +kernel) (Nat.le_of_ble_eq_true rfl) rfl ?_
  refine iX2_reads_0 (iX2_reads_1T (congrArg Prod.fst (hS.1 3 (by decide) (by decide))) (sp_reads2R (d := d) hS hT hC hl hk h9 hm h1 h2) ?_ ?_)
  · intro v M' h
    rcases h with h | ⟨e, c, h, -⟩
    · obtain ⟨h0, e, h⟩ := h
      cases e
      exact mw_areturn ⟨dX2_reads_4, rfl⟩ rfl (Or.inl ⟨_, rfl⟩) (Or.inl ⟨h0, rfl, h⟩)
    · cases h
  · intro a M' h
    exact mx_leave (by intro x hx; cases hx) h
/-! the plain side: what is still to be read behind j houses -/
def posR (j : Nat) : Nat := if j = 0 then 0 else 3 * j - 1
def RI (V : MVal) (j : Nat) : Prop := j ≤ 8 ∧ posR j ≤ tn V 0 ∧ hP (bt V 0) (tn V 0) = if j = 0 then hP (bt V 0) (tn V 0) else if 3 * j - 1 = tn V 0 then (-1, j) else if bt V 0 (3 * j - 1) ≠ 59 then (((3 * j - 1 : Nat) : Int), 0) else hF (bt V 0) (tn V 0) (9 - j) j
theorem RI.z {V : MVal} : RI V 0 := ⟨by decide, Nat.zero_le _, rfl⟩
theorem RI.e {V : MVal} {j : Nat} (h : RI V j) (hp : tn V 0 ≤ posR j) : fH V = -1 ∧ nH V = j := by
  obtain ⟨h1, h2, h3⟩ := h
  unfold posR at h2 hp
  unfold fH nH
  by_cases e : j = 0
  · subst e
    rw [if_pos rfl] at hp
    unfold hP
    rw [if_pos (by omega)]
    exact ⟨rfl, rfl⟩
  · rw [if_neg e] at h2 hp h3
    rw [if_pos (by omega)] at h3
    rw [h3]
    exact ⟨rfl, rfl⟩
/-- from the place of house j on -/
theorem RI.at {V : MVal} {j : Nat} (h : RI V j) (hp : posR j < tn V 0) : (0 < j ∧ bt V 0 (3 * j - 1) ≠ 59 ∧ fH V = ((3 * j - 1 : Nat) : Int) ∧ nH V = 0) ∨ (j = 0 ∨ bt V 0 (3 * j - 1) = 59) ∧ hP (bt V 0) (tn V 0) = hF (bt V 0) (tn V 0) (9 - j) j := by
  obtain ⟨h1, h2, h3⟩ := h
  unfold posR at h2 hp
  by_cases e : j = 0
  · subst e
    refine Or.inr ⟨Or.inl rfl, ?_⟩
    unfold hP
    rw [if_neg (by omega)]
  · rw [if_neg e] at h2 hp h3
    rw [if_neg (by omega)] at h3
    by_cases c : bt V 0 (3 * j - 1) ≠ 59
    · rw [if_pos c] at h3
      refine Or.inl ⟨by omega, c, ?_, ?_⟩
      · unfold fH; rw [h3]
      · unfold nH; rw [h3]
    · rw [if_neg c] at h3
      exact Or.inr ⟨Or.inr (by omega), h3⟩
theorem RI.s {V : MVal} {j : Nat} (h : hP (bt V 0) (tn V 0) = hF (bt V 0) (tn V 0) (9 - j) j) (h8 : j < 8) (g1 : 48 ≤ bt V 0 (3 * j) ∧ bt V 0 (3 * j) ≤ 55) (g2 : 48 ≤ bt V 0 (3 * j + 1) ∧ bt V 0 (3 * j + 1) ≤ 57) : RI V (j + 1) := by
  have hn : 3 * j + 1 < tn V 0 := by
    by_cases c : 3 * j + 1 < tn V 0
    · exact c
    · have : bt V 0 (3 * j + 1) = -1 := by unfold bt; rw [if_neg c]
      omega
  refine ⟨by omega, by unfold posR; rw [if_neg (by omega)]; omega, ?_⟩
  rw [if_neg (by omega), h, show 9 - j = (8 - j) + 1 by omega]
  unfold hF
  rw [if_neg (by omega), if_neg (by omega), show 3 * (j + 1) - 1 = 3 * j + 2 by omega]
  by_cases c : 3 * j + 2 = tn V 0
  · rw [if_pos c, if_pos c]
  · rw [if_neg c, if_neg c, show 9 - (j + 1) = 8 - j by omega]
    by_cases c2 : bt V 0 (3 * j + 2) ≠ 59
    · rw [if_pos c2, if_pos c2]
      have : (3 : Int) * (j : Int) + 2 = ((3 * j + 2 : Nat) : Int) := by omega
      rw [this]
    · rw [if_neg c2, if_neg c2]
      conv => lhs; rw [hF.eq_def]
theorem RI.f {V : MVal} {j : Nat} (h : hP (bt V 0) (tn V 0) = hF (bt V 0) (tn V 0) (9 - j) j) (h8 : j ≤ 8) : ((j = 8 ∨ ¬ (48 ≤ bt V 0 (3 * j) ∧ bt V 0 (3 * j) ≤ 55)) → fH V = 3 * j ∧ nH V = 0) ∧ (j < 8 → (48 ≤ bt V 0 (3 * j) ∧ bt V 0 (3 * j) ≤ 55) → ¬ (48 ≤ bt V 0 (3 * j + 1) ∧ bt V 0 (3 * j + 1) ≤ 57) → fH V = 3 * j + 1 ∧ nH V = 0) := by
  rw [show 9 - j = (8 - j) + 1 by omega] at h
  unfold hF at h
  constructor
  · intro c
    rw [if_pos c] at h
    unfold fH nH
    rw [h]
    exact ⟨rfl, rfl⟩
  · intro c0 c1 c2
    rw [if_neg (by omega), if_pos c2] at h
    unfold fH nH
    rw [h]
    exact ⟨rfl, rfl⟩
/-- j houses have been read -/
def StR (V : MVal) (M0 : MH) (W0 : MVal) (j : Nat) (M : MH) : Prop := TXE 3 M0 W0 M ∧ mhn M ≤ mhn M0 + j + (if le M 4 = 0 then 0 else 1) ∧ mhs M ≤ mhs M0 + 2 * j + (if le M 4 = 0 then 0 else 10) ∧ miv M 3 2 = (posR j : Int) ∧ LC M (miv M) 4 (4, 2) j ∧ ∀ i, i < j → miv M (el M 4 i) 0 = ow V i ∧ miv M (el M 4 i) 1 = pr V i
/-- the text is torn where its fault is -/
def TeR (V : MVal) (M0 : MH) (W0 : MVal) (e : Nat) (M : MH) : Prop := TXE 3 M0 W0 M ∧ mhn M ≤ mhn M0 + 12 ∧ mhs M ≤ mhs M0 + 50 ∧ msh M e = (9, 7) ∧ miv M e 6 = fH V ∧ nH V = 0
theorem sp_X2_between {d : Nat} {M : MH} {W : MVal} : MVi mX2_between d [vp 3] M W (fun z W' => z = 59 ∧ W = W') := by
  refine mc_of (L := [vp 3]) (by decide +kernel) (Nat.le_of_ble_eq_true rfl) rfl ?_
  refine iX2_between_0 (iX2_between_2 ?_)
  exact ⟨W, rfl, rfl, rfl⟩
set_option maxHeartbeats 8000000 in
theorem sp_nextR {d j : Nat} {M0 M : MH} {V W0 X : MVal} {R : RM} (hJ : CJ V R X M0 W0) (hL : Lim R) (hs : StR V M0 W0 j M) (hi : RI V j) (hp : posR j < tn V 0) : MC mX1_next (d + 8) [vp 3] (sI M (miv M)) (fun o M' => (o = .inl none ∧ StR V M0 W0 (j + 1) M' ∧ RI V (j + 1)) ∨ ∃ e, o = .inr e ∧ TeR V M0 W0 e M') := by
  refine mc_of (L := [vp 3]) (by decide +kernel) (Nat.le_of_ble_eq_true rfl) rfl ?_
  obtain ⟨s1, s2, s3, s4, s5, s6⟩ := hs
  have hT := hJ.mi.t
  have hS := s1.cs hJ (Or.inl rfl)
  have hC := s1.t hJ (Or.inl rfl)
  have hl : LST M (miv M) 4 := s1.2.2.2.2.2.2.2.1
  have j8 := hi.1
  have hr := hJ.r
  have hm : 122 ≤ mhn M := Nat.le_trans hr.1 s1.1
  have tn30 : tn V 0 ≤ 30 := by unfold tn; have := hT.1; omega
  have b1 : mhn M ≤ mhn M0 + 9 ∧ mhs M ≤ mhs M0 + 26 := by
    constructor
    · split at s2 <;> omega
    · split at s3 <;> omega
  have n1 : mhn M + 3 ≤ mNC := by
    have := hr.2.1
    have := hL.1
    show mhn M + 3 ≤ 603072
    omega
  have n2 : mhs M + 21 ≤ mNS := by
    have := hr.2.2
    have := hL.2
    show mhs M + 21 ≤ 7262314
    omega
  have k3 : (msh M 4).1 = 3 := congrArg Prod.fst (hS.1 4 (by decide) (by decide))
  have hb := bt_rng hT (t := 0) (by decide)
  -- torn here
  have tear : ∀ (W1 : MVal) (pc : Nat) (c : Int), TXE 3 M0 W0 (sI M W1) → LST M W1 4 → fH V = c ∧ nH V = 0 → TeR V M0 W0 (mhn M) (tornH (sI M W1) c) := by
    intro W1 pc c t1 l1 hc
    refine ⟨t1.tr (TXE.torn l1 (by omega)) (by omega), by show mhn M + 1 ≤ _; omega, by show mhs M + 7 ≤ _; omega, tornH_at.1, ?_, hc.2⟩
    rw [hc.1]; exact tornH_at.2
  -- the house
  have go : ∀ W1 : MVal, TXE 3 M0 W0 (sI M W1) → (∀ p, p ≠ 3 → W1 p = miv M p) → W1 3 2 = ((3 * j : Nat) : Int) → CIt V W1 → hP (bt V 0) (tn V 0) = hF (bt V 0) (tn V 0) (9 - j) j → MW mX1_next (d + 8) 44 [vp 3] [] (sI M W1) (fun o M' => (o = .inl none ∧ StR V M0 W0 (j + 1) M' ∧ RI V (j + 1)) ∨ ∃ e, o = .inr e ∧ TeR V M0 W0 e M') := by
    intro W1 t1 w1 wk c1 hh
    have l1 : LST M W1 4 := hl.w (w1 4 (by decide))
    have ff := RI.f hh j8
    have e4 : W1 4 2 = (j : Int) := by rw [w1 4 (by decide)]; exact s5.1
    refine iX1_next_44 (cX1_next_45R hS ?_)
    refine cX1_next_48R hS (sp_J2_size k3) ?_
    rintro z W' ⟨rfl, rfl⟩
    rw [e4]
    refine iX1_next_51 (iX1_next_53 (by omega) (by omega) (fun g1 => ?_) (fun g1 => ?_))
    rotate_left
    · refine iX1_next_56 ?_
      refine cX1_next_57RU hS (sp_tornR (d := d + 3) hS hm (by omega) (by omega)) ?_
      rintro r M' ⟨rfl, rfl⟩
      refine mw_athrow ⟨dX1_next_60, rfl⟩ (by intro x hx; cases hx) (Or.inr ⟨mhn M, rfl, ?_⟩)
      rw [wk]
      exact tear W1 0 _ t1 l1 (by have := ff.1 (Or.inl (by omega)); omega)
    have g1 : j ≠ 8 := fun e => g1 (by omega)
    refine iX1_next_61 (cX1_next_62R hS (iX1_next_65 (iX1_next_66_1T (congrArg Prod.fst (hS.1 3 (by decide) (by decide))) (sp_readsR (d := d) hS hT c1 l1 wk (by omega) hm (by omega) (by omega)) ?_ ?_)))
    rotate_left
    · rintro a M' (⟨h0, e, -⟩ | ⟨e0, c, e, h1, h2, h3, h4, h5, h6⟩)
      · cases e
      · cases e
        refine mx_leave (by intro x hx; cases hx) (Or.inr ⟨_, rfl, t1.tr h2 (by omega), by omega, by omega, h5, ?_, ?_⟩)
        · rw [h6]
          rcases h1 with ⟨y1, y2⟩ | ⟨y1, y2, y3⟩
          · rw [(ff.1 (Or.inr y2)).1]; omega
          · rw [(ff.2 (by omega) y2 y3).1]; omega
        · rcases h1 with ⟨y1, y2⟩ | ⟨y1, y2, y3⟩
          · exact (ff.1 (Or.inr y2)).2
          · exact (ff.2 (by omega) y2 y3).2
    rintro v M' (⟨h0, e, h1, h2, h3, h4, h5, h6, h7, h8, h9, h10, h11, h12⟩ | ⟨e0, c, e, -⟩)
    rotate_left
    · cases e
    cases e
    show MW mX1_next (d + 8) 69 [vp 3] [vp h0, vp 4] (sI M' (miv M')) _
    have t2 := t1.tr h3 (by omega)
    have hS2 := t2.cs hJ (Or.inl rfl)
    have l2 : LST M' (miv M') 4 := h3.2.2.2.2.2.2.2.1
    have le2 : le M' 4 = le M 4 := by unfold le; rw [h11 4 (by omega)]
    have c4 : LC M' (miv M') 4 (4, 2) j ∧ ∀ k, k < j → el M' 4 k = el M 4 k := s5.same hl (by rw [h11 4 (by omega)]) (by rw [h12 4 (by omega) (by decide), w1 4 (by decide)]) h3.1 h3.2.2.1 (fun _ z => h11 _ z)
    refine iX1_next_69 (M := sI M' (miv M')) (congrArg Prod.fst (hS2.1 4 (by decide) (by decide))) (sp_J2_add (d := d + 3) (M := M') (W := miv M') (a := 4) (n := j) (q := h0) (C0 := "SoldWithIt$House") (congrArg Prod.fst (hS2.1 4 (by decide) (by decide))) (by omega) l2.1 ?_ c4.1.1 (by omega) (cls_of (ci := 4) rfl (by rw [h7])) (lw_b q1612 rfl) (by omega) (by omega) (by omega)) ?_
    · rcases l2.2.1 with ⟨y1, y2⟩ | ⟨y1, y2, y3⟩
      · refine Or.inl ⟨y1, ?_⟩
        have := c4.1.1
        omega
      · exact Or.inr ⟨by omega, y2, by omega, y3⟩
    intro z M3 hA
    have t3 := hA.txe (a := 3) l2 (by omega) (by omega) (by omega)
    obtain ⟨a1, a2, a3, a4, a5, a6, a7, a8⟩ := hA.lc c4.1 (q := h0) ⟨by omega, by omega, h7⟩
    refine iX1_next_72 (mw_vreturn ⟨dX1_next_73, rfl⟩ rfl (Or.inl ⟨rfl, ⟨t2.tr t3 (by omega), ?_, ?_, ?_, a1, fun i hi2 => ?_⟩, RI.s hh (by omega) h1 h2⟩))
    · rw [if_neg a7]
      by_cases z0 : le M 4 = 0
      · rw [if_pos z0] at s2; omega
      · rw [if_neg z0] at s2
        have := (a5 (by rw [le2]; exact z0)).1
        omega
    · rw [if_neg a7]
      by_cases z0 : le M 4 = 0
      · rw [if_pos z0] at s3; omega
      · rw [if_neg z0] at s3
        have := (a5 (by rw [le2]; exact z0)).2
        omega
    · rw [a8 3 (by decide) (by omega), h10]
      unfold posR
      rw [if_neg (by omega)]
      omega
    · by_cases e : i = j
      · subst e
        rw [a3, a8 h0 (by omega) (by omega), h8, h9]
        exact ⟨rfl, rfl⟩
      · have b := (s5.2 i (by omega)).2
        rw [a2 i (by omega), c4.2 i (by omega), a8 _ (by omega) (by omega), h12 _ b.2.1 (by omega), w1 _ (by omega)]
        exact s6 i (by omega)
  refine iX1_next_0 (cX1_next_1R hS ?_)
  refine cX1_next_4R hS (sp_J2_isEmpty k3 ⟨hl.2.2.1, hl.2.2.2⟩) ?_
  rintro z W' ⟨rfl, rfl⟩
  refine iX1_next_7 bzR (fun h0 => have g := bz_ne h0; ?_) (fun h0 => have g := bz_eq h0; ?_)
  · -- the first one
    have j0 : j = 0 := by have := s5.1; omega
    subst j0
    rcases hi.at hp with y | y
    · omega
    · exact go (miv M) s1 (fun _ _ => rfl) (by rw [s4]; rfl) hC y.2
  have j1 : j ≠ 0 := by
    have := s5.1
    intro e
    exact g (by rw [this]; omega)
  have p1 : posR j = 3 * j - 1 := by unfold posR; rw [if_neg j1]
  refine iX1_next_10 ?_
  refine cX1_next_11R hS (sp_X2_between) ?_
  rintro z W' ⟨rfl, rfl⟩
  refine iX1_next_14 (iX1_next_15 (by omega) (by omega) (fun g2 => ?_) (fun g2 => ?_))
  · omega
  refine iX1_next_18 ?_
  refine cX1_next_19R hS (sp_hereR hS hT hC s4 (by omega)) ?_
  rintro z W' ⟨rfl, rfl⟩
  refine iX1_next_22 ?_
  refine cX1_next_23R hS (sp_X2_between) ?_
  rintro z W' ⟨rfl, rfl⟩
  have b3 := hb (posR j)
  refine iX1_next_26 (by omega) (by omega) (fun g3 => ?_) (fun g3 => ?_)
  · rcases hi.at hp with y | y
    · rw [p1] at g3; exact absurd g3 y.2.1
    · refine iX1_next_34 (iX1_next_35 (cX1_next_36R hS (iX1_next_39 (iX1_next_40 (cX1_next_41R hS ?_)))))
      rw [s4]
      refine go _ (s1.tr (TXE.at hl (by omega)) (by omega)) (fun p n => by rw [u2_ne n]) (by rw [u2_at]; omega) ?_ y.2
      exact (s1.tr (TXE.at (a := 3) hl (x := ((posR j : Nat) : Int) + 1) (by omega)) (by omega)).t hJ (Or.inl rfl)
  · refine iX1_next_29 ?_
    refine cX1_next_30RU hS (sp_tornR (d := d + 3) hS hm (by omega) (by omega)) ?_
    rintro r M' ⟨rfl, rfl⟩
    refine mw_athrow ⟨dX1_next_33, rfl⟩ (by intro x hx; cases hx) (Or.inr ⟨mhn M, rfl, ?_⟩)
    rw [s4]
    rcases hi.at hp with y | y
    · exact tear (miv M) 0 _ s1 hl (by rw [p1]; exact ⟨y.2.2.1, y.2.2.2⟩)
    · rcases y.1 with e | e
      · exact absurd e j1
      · rw [p1] at g3; exact absurd e g3
