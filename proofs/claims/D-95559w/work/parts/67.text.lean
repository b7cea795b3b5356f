/-! THE TEXTS: bytes, figures, tears -/
theorem tornH_n {M : MH} {k : Int} : mhn (tornH M k) = mhn M + 1 := rfl
theorem tornH_s {M : MH} {k : Int} : mhs (tornH M k) = mhs M + 7 := rfl
theorem tornH_sh {M : MH} {k : Int} {p : Nat} (h : p ≠ mhn M) : msh (tornH M k) p = msh M p ∧ mrv (tornH M k) p = mrv M p ∧ miv (tornH M k) p = miv M p := by
  refine ⟨msh_wN_ne (M := M) (k := 9) (n := 7) h, mrv_wN_ne (M := M) (k := 9) (n := 7) h, ?_⟩
  show u2 (miv (wN M 9 7)) (mhn M) 6 k p = _
  rw [u2_ne h, miv_wN_ne h]
theorem tornH_at {M : MH} {k : Int} : msh (tornH M k) (mhn M) = (9, 7) ∧ miv (tornH M k) (mhn M) 6 = k := ⟨msh_wN, u2_at⟩

/-! THE TEXT 3 -/
theorem sp_hereR {d k : Nat} {M : MH} {V W : MVal} (hS : CS M) (hT : MT V) (hC : CIt V W) (hk : W 3 2 = k) (h9 : k < 1000) : MVi mX1_here d [vp 3] M W (fun z W' => z = bt V 0 k ∧ W = W') := by
  refine mc_of (L := [vp 3]) (by decide +kernel) (Nat.le_of_ble_eq_true rfl) rfl ?_
  have t1 := hT.1
  have ty : W 3 1 = V 95 0 := hC.1
  refine iX1_here_0 (cX1_here_1R hS (iX1_here_4 (cX1_here_5R hS ?_)))
  rw [hk, ty]
  refine iX1_here_8 (by omega) (by omega) (fun g => ?_) (fun g => ?_)
  · refine iX1_here_23 (iX1_here_24 ?_)
    refine ⟨W, rfl, ?_, rfl⟩
    unfold bt tn
    rw [if_neg (by omega)]
  · refine iX1_here_11 (cX1_here_12R hS (iX1_here_15 (cX1_here_16R hS ?_)))
    rw [hk]
    refine cX1_here_19R hS ⟨by omega, by omega⟩ (iX1_here_20 (iX1_here_24 ?_))
    refine ⟨W, rfl, ?_, rfl⟩
    rw [Int.toNat_natCast]
    unfold bt tn
    rw [if_pos (by omega), hC.2.1 k (by omega), show 30 * 0 + k = k by omega]
theorem sp_goesOnR {d : Nat} {M : MH} {W : MVal} (hS : CS M) : MVv mX1_goesOn d [vp 3] M W (fun W' => u2 W 3 2 (W 3 2 + 1) = W') := by
  refine mc_of (L := [vp 3]) (by decide +kernel) (Nat.le_of_ble_eq_true rfl) rfl ?_
  refine iX1_goesOn_0 (iX1_goesOn_1 (cX1_goesOn_2R hS (iX1_goesOn_5 (iX1_goesOn_6 (cX1_goesOn_7R hS (iX1_goesOn_10 ?_))))))
  exact ⟨_, rfl, rfl⟩
theorem sp_tornR {d : Nat} {M : MH} {W : MVal} (hS : CS M) (hm : 122 ≤ mhn M) (h1 : mhn M + 1 ≤ mNC) (h2 : mhs M + 7 ≤ mNS) : MCr mX1_torn (d + 4) [vp 3] (sI M W) (fun r M' => r = some (mhn M) ∧ M' = tornH (sI M W) (W 3 2)) := by
  refine mc_of (L := [vp 3]) (by decide +kernel) (Nat.le_of_ble_eq_true rfl) rfl ?_
  refine iX1_torn_0 h1 h2 (iX1_torn_3 (iX1_torn_4 (iX1_torn_5_1 ?_ ?_)))
  · rw [msh_wN_ne (show 3 ≠ mhn (sI M W) from by show 3 ≠ mhn M; omega)]
    exact congrArg Prod.fst (hS.1 3 (by decide) (by decide))
  rw [miv_wN_ne (show 3 ≠ mhn (sI M W) from by show 3 ≠ mhn M; omega)]
  refine iX1_torn_8 (sp_X8_init (d := d) (M := sI M W) (k := W 3 2)) ?_
  rintro M' rfl
  exact iX1_torn_11 ⟨rfl, rfl⟩
/-- a figure was read, or the text is torn -/
def FgR (V : MVal) (k : Nat) (most : Int) (M : MH) (W : MVal) : Out → MH → Prop := fun o M' => (∃ z : Int, o = .inl (some (vi z)) ∧ z = bt V 0 k - 48 ∧ 0 ≤ z ∧ z ≤ most ∧ M' = sI M (u2 W 3 2 (k + 1))) ∨ (o = .inr (mhn M) ∧ ¬ (48 ≤ bt V 0 k ∧ bt V 0 k ≤ 48 + most) ∧ M' = tornH (sI M W) k)
set_option maxHeartbeats 1000000 in
theorem sp_figureR {d k : Nat} {M : MH} {V W : MVal} (hS : CS M) (hT : MT V) (hC : CIt V W) (hk : W 3 2 = k) (h9 : k < 1000) (hm : 122 ≤ mhn M) (h1 : mhn M + 1 ≤ mNC) (h2 : mhs M + 7 ≤ mNS) {most : Int} (h3 : 0 ≤ most ∧ most ≤ 9) : MC mX1_figure (d + 5) [vp 3, vi most] (sI M W) (FgR V k most M W) := by
  refine mc_of (L := [vp 3, vi most, vu]) (by decide +kernel) (Nat.le_of_ble_eq_true rfl) rfl ?_
  have hb := bt_rng hT (t := 0) (by decide) k
  refine iX1_figure_0 ?_
  refine cX1_figure_1R hS (sp_hereR (d := d + 4) hS hT hC hk h9) ?_
  rintro z W' ⟨rfl, rfl⟩
  refine iX1_figure_4 (iX1_figure_6 (iX1_figure_7 (iX1_figure_8 (iX1_figure_9 (by omega) (iX1_figure_10 (iX1_figure_11 (iX1_figure_12 (by omega) (cX1_figure_13R (sp_X0_in (by omega) (by omega) (by omega)) ?_))))))))
  refine iX1_figure_16 bzR (fun h0 => have g := bz_ne h0; ?_) (fun h0 => have g := bz_eq h0; ?_)
  · refine iX1_figure_24 (iX1_figure_25 (cX1_figure_26R hS (iX1_figure_29 (iX1_figure_30 (cX1_figure_31R hS (iX1_figure_34 ?_))))))
    refine mw_ireturn ⟨dX1_figure_35, rfl⟩ rfl (Or.inl ⟨_, rfl, rfl, by omega, by omega, ?_⟩)
    rw [hk]
  · refine iX1_figure_19 ?_
    refine cX1_figure_20RU hS (sp_tornR (d := d) hS hm h1 h2) ?_
    rintro r M' ⟨rfl, rfl⟩
    refine mw_athrow ⟨dX1_figure_23, rfl⟩ (by intro x hx; cases hx) (Or.inr ⟨rfl, by omega, ?_⟩)
    rw [hk]
    rfl
theorem sp_thingR {d k c : Nat} {M : MH} {W : MVal} (hS : CS M) (hl : LST M W 4) (hk : (k : Int) < W 4 2) (hc : mrv M (le M 4) k = some c) : MVr mX1_thing (d + 3) [vp 3, vi k] M W (fun r W' => r = some c ∧ W = W') := by
  refine mc_of (L := [vp 3, vi k]) (by decide +kernel) (Nat.le_of_ble_eq_true rfl) rfl ?_
  refine iX1_thing_0 (cX1_thing_1R hS (iX1_thing_4 ?_))
  have he : msh M (le M 4) = (104, 10) := by
    rcases hl.2.1 with z | z
    · omega
    · exact z.2.2
  refine cX1_thing_5R hS (sp_J2_get (d := d) (congrArg Prod.fst (hS.1 4 (by decide) (by decide))) hl.1 he hk hl.2.2.2 hc) ?_
  rintro r W' ⟨rfl, rfl⟩
  refine iX1_thing_8 ?_
  exact ⟨W, rfl, rfl, rfl⟩
theorem sp_lengthR {d : Nat} {M : MH} {W : MVal} (hS : CS M) : MVi mX1_length d [vp 3] M W (fun z W' => z = W 3 1 ∧ W = W') := by
  refine mc_of (L := [vp 3]) (by decide +kernel) (Nat.le_of_ble_eq_true rfl) rfl ?_
  refine iX1_length_0 (cX1_length_1R hS (iX1_length_4 ?_))
  exact ⟨W, rfl, rfl, rfl⟩

/-! THE TEXT 6 -/
theorem sp_hereF {d k : Nat} {M : MH} {V W : MVal} (hS : CS M) (hT : MT V) (hC : CIt V W) (hk : W 6 2 = k) (h9 : k < 1000) : MVi mX1_here d [vp 6] M W (fun z W' => z = bt V 1 k ∧ W = W') := by
  refine mc_of (L := [vp 6]) (by decide +kernel) (Nat.le_of_ble_eq_true rfl) rfl ?_
  have t1 := hT.2.1
  have ty : W 6 1 = V 95 1 := hC.2.2.1
  refine iX1_here_0 (cX1_here_1F hS (iX1_here_4 (cX1_here_5F hS ?_)))
  rw [hk, ty]
  refine iX1_here_8 (by omega) (by omega) (fun g => ?_) (fun g => ?_)
  · refine iX1_here_23 (iX1_here_24 ?_)
    refine ⟨W, rfl, ?_, rfl⟩
    unfold bt tn
    rw [if_neg (by omega)]
  · refine iX1_here_11 (cX1_here_12F hS (iX1_here_15 (cX1_here_16F hS ?_)))
    rw [hk]
    refine cX1_here_19F hS ⟨by omega, by omega⟩ (iX1_here_20 (iX1_here_24 ?_))
    refine ⟨W, rfl, ?_, rfl⟩
    rw [Int.toNat_natCast]
    unfold bt tn
    rw [if_pos (by omega), hC.2.2.2 k (by omega)]
theorem sp_goesOnF {d : Nat} {M : MH} {W : MVal} (hS : CS M) : MVv mX1_goesOn d [vp 6] M W (fun W' => u2 W 6 2 (W 6 2 + 1) = W') := by
  refine mc_of (L := [vp 6]) (by decide +kernel) (Nat.le_of_ble_eq_true rfl) rfl ?_
  refine iX1_goesOn_0 (iX1_goesOn_1 (cX1_goesOn_2F hS (iX1_goesOn_5 (iX1_goesOn_6 (cX1_goesOn_7F hS (iX1_goesOn_10 ?_))))))
  exact ⟨_, rfl, rfl⟩
theorem sp_tornF {d : Nat} {M : MH} {W : MVal} (hS : CS M) (hm : 122 ≤ mhn M) (h1 : mhn M + 1 ≤ mNC) (h2 : mhs M + 7 ≤ mNS) : MCr mX1_torn (d + 4) [vp 6] (sI M W) (fun r M' => r = some (mhn M) ∧ M' = tornH (sI M W) (W 6 2)) := by
  refine mc_of (L := [vp 6]) (by decide +kernel) (Nat.le_of_ble_eq_true rfl) rfl ?_
  refine iX1_torn_0 h1 h2 (iX1_torn_3 (iX1_torn_4 (iX1_torn_5_2 ?_ ?_)))
  · rw [msh_wN_ne (show 6 ≠ mhn (sI M W) from by show 6 ≠ mhn M; omega)]
    exact congrArg Prod.fst (hS.1 6 (by decide) (by decide))
  rw [miv_wN_ne (show 6 ≠ mhn (sI M W) from by show 6 ≠ mhn M; omega)]
  refine iX1_torn_8 (sp_X8_init (d := d) (M := sI M W) (k := W 6 2)) ?_
  rintro M' rfl
  exact iX1_torn_11 ⟨rfl, rfl⟩
/-- a figure was read, or the text is torn -/
def FgF (V : MVal) (k : Nat) (most : Int) (M : MH) (W : MVal) : Out → MH → Prop := fun o M' => (∃ z : Int, o = .inl (some (vi z)) ∧ z = bt V 1 k - 48 ∧ 0 ≤ z ∧ z ≤ most ∧ M' = sI M (u2 W 6 2 (k + 1))) ∨ (o = .inr (mhn M) ∧ ¬ (48 ≤ bt V 1 k ∧ bt V 1 k ≤ 48 + most) ∧ M' = tornH (sI M W) k)
set_option maxHeartbeats 1000000 in
theorem sp_figureF {d k : Nat} {M : MH} {V W : MVal} (hS : CS M) (hT : MT V) (hC : CIt V W) (hk : W 6 2 = k) (h9 : k < 1000) (hm : 122 ≤ mhn M) (h1 : mhn M + 1 ≤ mNC) (h2 : mhs M + 7 ≤ mNS) {most : Int} (h3 : 0 ≤ most ∧ most ≤ 9) : MC mX1_figure (d + 5) [vp 6, vi most] (sI M W) (FgF V k most M W) := by
  refine mc_of (L := [vp 6, vi most, vu]) (by decide +kernel) (Nat.le_of_ble_eq_true rfl) rfl ?_
  have hb := bt_rng hT (t := 1) (by decide) k
  refine iX1_figure_0 ?_
  refine cX1_figure_1F hS (sp_hereF (d := d + 4) hS hT hC hk h9) ?_
  rintro z W' ⟨rfl, rfl⟩
  refine iX1_figure_4 (iX1_figure_6 (iX1_figure_7 (iX1_figure_8 (iX1_figure_9 (by omega) (iX1_figure_10 (iX1_figure_11 (iX1_figure_12 (by omega) (cX1_figure_13F (sp_X0_in (by omega) (by omega) (by omega)) ?_))))))))
  refine iX1_figure_16 bzR (fun h0 => have g := bz_ne h0; ?_) (fun h0 => have g := bz_eq h0; ?_)
  · refine iX1_figure_24 (iX1_figure_25 (cX1_figure_26F hS (iX1_figure_29 (iX1_figure_30 (cX1_figure_31F hS (iX1_figure_34 ?_))))))
    refine mw_ireturn ⟨dX1_figure_35, rfl⟩ rfl (Or.inl ⟨_, rfl, rfl, by omega, by omega, ?_⟩)
    rw [hk]
  · refine iX1_figure_19 ?_
    refine cX1_figure_20FU hS (sp_tornF (d := d) hS hm h1 h2) ?_
    rintro r M' ⟨rfl, rfl⟩
    refine mw_athrow ⟨dX1_figure_23, rfl⟩ (by intro x hx; cases hx) (Or.inr ⟨rfl, by omega, ?_⟩)
    rw [hk]
    rfl
theorem sp_thingF {d k c : Nat} {M : MH} {W : MVal} (hS : CS M) (hl : LST M W 7) (hk : (k : Int) < W 7 2) (hc : mrv M (le M 7) k = some c) : MVr mX1_thing (d + 3) [vp 6, vi k] M W (fun r W' => r = some c ∧ W = W') := by
  refine mc_of (L := [vp 6, vi k]) (by decide +kernel) (Nat.le_of_ble_eq_true rfl) rfl ?_
  refine iX1_thing_0 (cX1_thing_1F hS (iX1_thing_4 ?_))
  have he : msh M (le M 7) = (104, 10) := by
    rcases hl.2.1 with z | z
    · omega
    · exact z.2.2
  refine cX1_thing_5F hS (sp_J2_get (d := d) (congrArg Prod.fst (hS.1 7 (by decide) (by decide))) hl.1 he hk hl.2.2.2 hc) ?_
  rintro r W' ⟨rfl, rfl⟩
  refine iX1_thing_8 ?_
  exact ⟨W, rfl, rfl, rfl⟩
theorem sp_lengthF {d : Nat} {M : MH} {W : MVal} (hS : CS M) : MVi mX1_length d [vp 6] M W (fun z W' => z = W 6 1 ∧ W = W') := by
  refine mc_of (L := [vp 6]) (by decide +kernel) (Nat.le_of_ble_eq_true rfl) rfl ?_
  refine iX1_length_0 (cX1_length_1F hS (iX1_length_4 ?_))
  exact ⟨W, rfl, rfl, rfl⟩
