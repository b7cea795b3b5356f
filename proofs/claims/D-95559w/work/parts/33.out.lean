/-! the model: out of the stroke, values, changes -/
def tld (V : MVal) (n : Nat) (h : Int) : Prop := ∃ k, k < n ∧ V 102 k = h
abbrev tldS (V : MVal) (h : Int) : Prop := tld V (V 94 9).toNat h
theorem tld_s {V : MVal} {n : Nat} {h : Int} : tld V (n + 1) h ↔ tld V n h ∨ V 102 n = h := ⟨fun ⟨k, h1, h2⟩ => by
  by_cases e : k = n
  · subst e; exact Or.inr h2
  · exact Or.inl ⟨k, by omega, h2⟩, fun z => z.elim (fun ⟨k, h1, h2⟩ => ⟨k, by omega, h2⟩) (fun z => ⟨n, by omega, z⟩)⟩
theorem sp_isTold {d : Nat} {M : MH} {V0 V : MVal} (hS : MS (msh M) (mrv M)) (hI : MI V0) (hP : PEq V0 V) {h : Int} (hh : inR h) : MVi mX7_isTold d [vp 94, vi h] M V (fun z V' => z = cif (tldS V0 h) 1 0 ∧ V = V') := by
  refine mc_of (L := [vp 94, vi h, vu, vu]) (by decide +kernel) (Nat.le_of_ble_eq_true rfl) rfl ?_
  have hs := hI.s
  have e9 := hP.2.1
  have loop : ∀ f k : Nat, k + f = (V0 94 9).toNat → MW mX7_isTold d 4 [vp 94, vi h, vi (cif (tld V0 k h) (1 : Int) 0), vi k] [] (sI M V) (Vi M (fun z V' => z = cif (tldS V0 h) 1 0 ∧ V = V')) := by
    intro f
    induction f with
    | zero =>
      intro k h1
      have : k = (V0 94 9).toNat := by omega
      subst this
      refine iX7_isTold_4 (iX7_isTold_5 (jX7_isTold_6 hS (iX7_isTold_9 (by omega) (by omega) (fun g => ?_) (fun g => ?_))))
      · refine iX7_isTold_38 (iX7_isTold_39 ?_ ?_)
        · exact cif01
        · exact ⟨V, rfl, rfl, rfl⟩
      · omega
    | succ f ih =>
      intro k h1
      have ek : ((k : Int)).toNat = k := by omega
      have c01 := cif01 (p := tld V0 k h)
      have hse := (hI.se k (by omega)).1
      have fin : ∀ z : Int, z = cif (tld V0 (k + 1) h) (1 : Int) 0 → MW mX7_isTold d 31 [vp 94, vi h, vi (cif (tld V0 k h) (1 : Int) 0), vi k] [vi z] (sI M V) (Vi M (fun z V' => z = cif (tldS V0 h) 1 0 ∧ V = V')) := by
        rintro z rfl
        refine iX7_isTold_31 (iX7_isTold_32 (iX7_isTold_35 ?_))
        exact ih (k + 1) (by omega)
      refine iX7_isTold_4 (iX7_isTold_5 (jX7_isTold_6 hS (iX7_isTold_9 (by omega) (by omega) (fun g => ?_) (fun g => ?_))))
      · omega
      refine iX7_isTold_12 (iX7_isTold_13 (by omega) (fun g1 => ?_) (fun g1 => ?_))
      · refine iX7_isTold_26 (iX7_isTold_27 ?_)
        exact fin 1 (cif_t (tld_s.mpr (Or.inl (cif_n0 g1)))).symm
      refine iX7_isTold_16 (jX7_isTold_17 hS (iX7_isTold_20 (jX7_isTold_21 hS ⟨by omega, by omega⟩ ?_)))
      rw [ek, hP.1 102 rfl]
      refine iX7_isTold_22 (iX7_isTold_23 (by omega) (by omega) (fun g2 => ?_) (fun g2 => ?_))
      · refine iX7_isTold_30 ?_
        exact fin 0 (cif_f (fun z => (tld_s.mp z).elim (cif_e0 (by omega)) g2)).symm
      · refine iX7_isTold_26 (iX7_isTold_27 ?_)
        exact fin 1 (cif_t (tld_s.mpr (Or.inr (by omega)))).symm
  refine iX7_isTold_0 (iX7_isTold_1 (iX7_isTold_2 (iX7_isTold_3 ?_)))
  have := loop (V0 94 9).toNat 0 (by omega)
  rw [cif_f (fun ⟨k, h1, _⟩ => by omega)] at this
  exact this
/-- how far it is from a to h -/
def farD (a h : Int) : Int := if h < a then a - h else h - a
noncomputable def ouL (V : MVal) (a : Int) : Nat → Int
  | 0 => if a + 1 < nH V - a then a + 1 else nH V - a
  | h + 1 => cif (¬ tldS V h ∧ farD a h < ouL V a h) (farD a h) (ouL V a h)
theorem ouL_rng {V : MVal} {a : Int} (h1 : 0 ≤ a) (h2 : a < nH V) : ∀ h : Nat, 0 ≤ ouL V a h ∧ ouL V a h ≤ 8
  | 0 => by
    have := nH_le V
    unfold ouL; split <;> omega
  | h + 1 => by
    have := ouL_rng h1 h2 h
    unfold ouL
    by_cases c : ¬ tldS V h ∧ farD a h < ouL V a h
    · rw [cif_t c]
      have := c.2
      have : 0 ≤ farD a h := by unfold farD; split <;> omega
      omega
    · rw [cif_f c]; exact this
noncomputable def ouF (V : MVal) (p : Nat) : Int := cif (pl V p = -1 ∨ ¬ tldS V (pl V p)) 0 (if kd V p = 2 then -1 else ouL V (pl V p) (nH V))
noncomputable def ouZ (V : MVal) (p : Int) : Int := if 0 ≤ p ∧ p < nP V then ouF V p.toNat else -2
set_option maxHeartbeats 4000000 in
theorem sp_outOf {d : Nat} {M : MH} {V0 V : MVal} (hS : MS (msh M) (mrv M)) (hI : MI V0) (hR : RSt V0 V) {p : Nat} (hp : p < nP V0) : MVi mX7_outOf (d + 1) [vp 94, vi p] M V (fun z V' => z = ouF V0 p ∧ V = V') := by
  refine mc_of (L := [vp 94, vi p, vu, vu, vu, vu]) (by decide +kernel) (Nat.le_of_ble_eq_true rfl) rfl ?_
  have n8 := nP_le V0
  have h8 := nH_le V0
  have e2 := hR.2.1
  have ep : ((p : Int)).toNat = p := by omega
  have e99 := hR.2.2.2.2 p hp
  have rk := kd_rng V0 p
  have rpl := pl_rng hp
  generalize hat : pl V0 p = a at *
  have zero : (a = -1 ∨ ¬ tldS V0 a) → MW mX7_outOf (d + 1) 20 [vp 94, vi p, vi a, vu, vu, vu] [] (sI M V) (Vi M (fun z V' => z = ouF V0 p ∧ V = V')) := by
    intro c
    refine iX7_outOf_20 (iX7_outOf_21 ?_)
    exact ⟨V, rfl, by unfold ouF; rw [hat, cif_t c], rfl⟩
  refine iX7_outOf_0 (jX7_outOf_1 hS (iX7_outOf_4 (jX7_outOf_5 hS ⟨by omega, by omega⟩ ?_)))
  rw [ep, e99.2]
  refine iX7_outOf_6 (iX7_outOf_7 (iX7_outOf_8 (iX7_outOf_9 (by omega) (by omega) (fun g => ?_) (fun g => ?_))))
  · exact zero (Or.inl g)
  refine iX7_outOf_12 (iX7_outOf_13 ?_)
  refine jX7_outOf_14 hS (sp_isTold hS hI hR.1 (h := a) (by omega)) ?_
  rintro z V1 ⟨rfl, rfl⟩
  have c01 := cif01 (p := tldS V0 a)
  refine iX7_outOf_17 (by omega) (fun g1 => ?_) (fun g1 => ?_)
  rotate_left
  · exact zero (Or.inr (cif_e0 (by omega)))
  have nc : ¬ (a = -1 ∨ ¬ tldS V0 a) := fun z => z.elim g (fun y => y (cif_n0 g1))
  refine iX7_outOf_22 (jX7_outOf_23 hS (iX7_outOf_26 (jX7_outOf_27 hS ⟨by omega, by omega⟩ ?_)))
  rw [ep, e99.1]
  refine iX7_outOf_28 (iX7_outOf_29 (by omega) (by omega) (fun g2 => ?_) (fun g2 => ?_))
  rotate_left
  · refine iX7_outOf_32 (iX7_outOf_33 ?_)
    exact ⟨V, rfl, by unfold ouF; rw [hat, cif_f nc, if_pos (by omega)], rfl⟩
  have loop : ∀ f h : Nat, ∀ m5 : MV, h + f = nH V0 → MW mX7_outOf (d + 1) 62 [vp 94, vi p, vi a, vi (ouL V0 a h), vi h, m5] [] (sI M V) (Vi M (fun z V' => z = ouF V0 p ∧ V = V')) := by
    intro f
    induction f with
    | zero =>
      intro h m5 h1
      have : h = nH V0 := by omega
      subst this
      refine iX7_outOf_62 (iX7_outOf_64 (jX7_outOf_65 hS (iX7_outOf_68 (by omega) (by omega) (fun g3 => ?_) (fun g3 => ?_))))
      · refine iX7_outOf_118 (iX7_outOf_119 ?_)
        exact ⟨V, rfl, by unfold ouF; rw [hat, cif_f nc, if_neg g2], rfl⟩
      · omega
    | succ f ih =>
      intro h m5 h1
      have hr := ouL_rng (V := V0) (a := a) (by omega) (by omega) h
      have c02 := cif01 (p := tldS V0 h)
      have hfr : 0 ≤ farD a h ∧ farD a h ≤ 8 := by unfold farD; split <;> omega
      have es : ouL V0 a (h + 1) = cif (¬ tldS V0 h ∧ farD a h < ouL V0 a h) (farD a h) (ouL V0 a h) := rfl
      have mid : ∀ x : Int, x = farD a h → MW mX7_outOf (d + 1) 88 [vp 94, vi p, vi a, vi (ouL V0 a h), vi h, m5] [vi x] (sI M V) (Vi M (fun z V' => z = ouF V0 p ∧ V = V')) := by
        rintro x rfl
        have key := ih (h + 1) (vi (farD a h)) (by omega)
        rw [es] at key
        refine iX7_outOf_88 (iX7_outOf_90 (iX7_outOf_91 ?_))
        refine jX7_outOf_93 hS (sp_isTold hS hI hR.1 (h := h) (by omega)) ?_
        rintro z V1 ⟨rfl, rfl⟩
        refine iX7_outOf_96 (by omega) (fun g4 => ?_) (fun g4 => ?_)
        · rw [cif_f (fun z => z.1 (cif_n0 g4))] at key
          refine iX7_outOf_110 (iX7_outOf_111 (iX7_outOf_112 (iX7_outOf_115 ?_)))
          exact key
        refine iX7_outOf_99 (iX7_outOf_101 (iX7_outOf_102 (by omega) (by omega) (fun g5 => ?_) (fun g5 => ?_)))
        · rw [cif_f (fun z => by have := z.2; omega)] at key
          refine iX7_outOf_110 (iX7_outOf_111 (iX7_outOf_112 (iX7_outOf_115 ?_)))
          exact key
        · rw [cif_t ⟨cif_e0 (by omega), by omega⟩] at key
          refine iX7_outOf_105 (iX7_outOf_107 (iX7_outOf_111 (iX7_outOf_112 (iX7_outOf_115 ?_))))
          exact key
      refine iX7_outOf_62 (iX7_outOf_64 (jX7_outOf_65 hS (iX7_outOf_68 (by omega) (by omega) (fun g3 => ?_) (fun g3 => ?_))))
      · omega
      refine iX7_outOf_71 (iX7_outOf_73 (iX7_outOf_74 (by omega) (by omega) (fun g4 => ?_) (fun g4 => ?_)))
      · refine iX7_outOf_84 (iX7_outOf_86 (iX7_outOf_87 ?_))
        exact mid _ (by unfold farD; rw [if_neg (by omega)])
      · refine iX7_outOf_77 (iX7_outOf_78 (iX7_outOf_80 (iX7_outOf_81 ?_)))
        exact mid _ (by unfold farD; rw [if_pos (by omega)])
  have st : ∀ x : Int, x = ouL V0 a 0 → MW mX7_outOf (d + 1) 58 [vp 94, vi p, vi a, vu, vu, vu] [vi x] (sI M V) (Vi M (fun z V' => z = ouF V0 p ∧ V = V')) := by
    rintro x rfl
    refine iX7_outOf_58 (iX7_outOf_59 (iX7_outOf_60 ?_))
    exact loop (nH V0) 0 _ (by omega)
  refine iX7_outOf_34 (iX7_outOf_35 (iX7_outOf_36 (iX7_outOf_37 (jX7_outOf_38 hS (iX7_outOf_41 (iX7_outOf_42 (iX7_outOf_43 (by omega) (by omega) (fun g3 => ?_) (fun g3 => ?_))))))))
  · refine iX7_outOf_52 (jX7_outOf_53 hS (iX7_outOf_56 (iX7_outOf_57 ?_)))
    exact st _ (by unfold ouL; rw [if_neg (by omega), e2])
  · refine iX7_outOf_46 (iX7_outOf_47 (iX7_outOf_48 (iX7_outOf_49 ?_)))
    exact st _ (by unfold ouL; rw [if_pos (by omega)])
theorem sp_out {d : Nat} {M : MH} {V0 V : MVal} (hS : MS (msh M) (mrv M)) (hI : MI V0) (hP : PEq V0 V) {p : Int} (hp : inR p) : MVi mX7_out (d + 4) [vp 94, vi p] M V (fun z V' => z = ouZ V0 p ∧ PEq V0 V') := by
  refine mc_of (L := [vp 94, vi p]) (by decide +kernel) (Nat.le_of_ble_eq_true rfl) rfl ?_
  refine iX7_out_0 (iX7_out_1 ?_)
  refine jX7_out_2 hS (sp_isPerson hS hI.t hP hp) ?_
  rintro z V1 ⟨rfl, hR⟩
  refine iX7_out_5 bzR (fun h0 => have g1 := bz_eq h0; ?_) (fun h0 => have g1 := bz_ne h0; ?_)
  · refine iX7_out_16 (iX7_out_18 ?_)
    exact ⟨V1, rfl, by unfold ouZ; rw [if_neg g1], hR.1⟩
  · obtain ⟨p, rfl⟩ := Int.eq_ofNat_of_zero_le g1.1
    refine iX7_out_8 (iX7_out_9 ?_)
    refine jX7_out_10 hS (sp_outOf hS hI hR (p := p) (by omega)) ?_
    rintro z V2 ⟨rfl, rfl⟩
    refine iX7_out_13 (iX7_out_18 ?_)
    exact ⟨V1, rfl, by unfold ouZ; rw [if_pos g1, Int.toNat_natCast], hR.1⟩
/-! values -/
def vlP (V : MVal) (h p q : Nat) : Int := if pl V q = (h : Int) ∧ q ≠ p then V 109 (8 * p + q) else 0
def vlF (V : MVal) (h p : Nat) : Int := pr V h + sumN (vlP V h p) (nP V)
theorem vlF_rng {V : MVal} (hI : MI V) {h p : Nat} (hh : h < nH V) (hp : p < 8) : -100 ≤ vlF V h p ∧ vlF V h p ≤ 100 := by
  have h1 := (ow_rng hh).2
  have n8 := nP_le V
  have h2 := sumN_b (f := vlP V h p) n8 (fun i hi => by
    have := (hI.w (8 * p + i) (by omega)).1
    unfold vlP; split <;> omega)
  unfold vlF
  omega
set_option maxHeartbeats 2000000 in
theorem sp_valueOf {d : Nat} {M : MH} {V0 V : MVal} (hS : MS (msh M) (mrv M)) (hI : MI V0) (hR : RSt V0 V) {h p : Nat} (hh : h < nH V0) (hp : p < 8) : MVi mX7_valueOf d [vp 94, vi h, vi p] M V (fun z V' => z = vlF V0 h p ∧ V = V') := by
  refine mc_of (L := [vp 94, vi h, vi p, vu, vu]) (by decide +kernel) (Nat.le_of_ble_eq_true rfl) rfl ?_
  have n8 := nP_le V0
  have h8 := nH_le V0
  have e5 := hR.2.2.1
  have loop : ∀ f k : Nat, k + f = nP V0 → MW mX7_valueOf d 10 [vp 94, vi h, vi p, vi (pr V0 h + sumN (vlP V0 h p) k), vi k] [] (sI M V) (Vi M (fun z V' => z = vlF V0 h p ∧ V = V')) := by
    intro f
    induction f with
    | zero =>
      intro k h1
      have : k = nP V0 := by omega
      subst this
      refine iX7_valueOf_10 (iX7_valueOf_12 (jX7_valueOf_13 hS (iX7_valueOf_16 (by omega) (by omega) (fun g => ?_) (fun g => ?_))))
      · refine iX7_valueOf_61 (iX7_valueOf_62 ?_)
        exact ⟨V, rfl, rfl, rfl⟩
      · omega
    | succ f ih =>
      intro k h1
      have ek : ((k : Int)).toNat = k := by omega
      have e1 := (hR.2.2.2.2 k (by omega)).2
      have r1 := pl_rng (V := V0) (j := k) (by omega)
      have t1 : (8 * (p : Int) + (k : Int)).toNat = 8 * p + k := by omega
      have fin : ∀ x : Int, x = vlP V0 h p k → MW mX7_valueOf d 53 [vp 94, vi h, vi p, vi (pr V0 h + sumN (vlP V0 h p) k), vi k] [vi x, vi (pr V0 h + sumN (vlP V0 h p) k)] (sI M V) (Vi M (fun z V' => z = vlF V0 h p ∧ V = V')) := by
        rintro x rfl
        refine iX7_valueOf_53 (iX7_valueOf_54 (iX7_valueOf_55 (iX7_valueOf_58 ?_)))
        rw [Int.add_assoc]
        exact ih (k + 1) (by omega)
      refine iX7_valueOf_10 (iX7_valueOf_12 (jX7_valueOf_13 hS (iX7_valueOf_16 (by omega) (by omega) (fun g => ?_) (fun g => ?_))))
      · omega
      refine iX7_valueOf_19 (iX7_valueOf_20 (jX7_valueOf_21 hS (iX7_valueOf_24 (jX7_valueOf_26 hS ⟨by omega, by omega⟩ ?_))))
      rw [ek, e1]
      refine iX7_valueOf_27 (iX7_valueOf_28 (by omega) (by omega) (fun g1 => ?_) (fun g1 => ?_))
      · refine iX7_valueOf_52 ?_
        exact fin _ (by unfold vlP; rw [if_neg (by omega)])
      refine iX7_valueOf_31 (iX7_valueOf_33 (iX7_valueOf_34 (by omega) (by omega) (fun g2 => ?_) (fun g2 => ?_)))
      · refine iX7_valueOf_52 ?_
        exact fin _ (by unfold vlP; rw [if_neg (by omega)])
      · refine iX7_valueOf_37 (jX7_valueOf_38 hS (iX7_valueOf_41 (iX7_valueOf_43 (iX7_valueOf_44 (iX7_valueOf_45 (iX7_valueOf_47 (jX7_valueOf_48 hS ⟨by omega, by omega⟩ (iX7_valueOf_49 ?_))))))))
        rw [t1, hR.1.1 109 rfl]
        exact fin _ (by unfold vlP; rw [if_pos (by omega)])
  refine iX7_valueOf_0 (jX7_valueOf_1 hS (iX7_valueOf_4 (jX7_valueOf_5 hS ⟨by omega, by omega⟩ ?_)))
  rw [Int.toNat_natCast, (hR.2.2.2.1 h hh).2]
  refine iX7_valueOf_6 (iX7_valueOf_7 (iX7_valueOf_8 ?_))
  have := loop (nP V0) 0 (by omega)
  rw [show pr V0 h + sumN (vlP V0 h p) 0 = pr V0 h from Int.add_zero _] at this
  exact this
def vlZ (V : MVal) (h p : Int) : Int := if (0 ≤ h ∧ h < nH V) ∧ 0 ≤ p ∧ p < nP V then vlF V h.toNat p.toNat else -100002
theorem sp_value {d : Nat} {M : MH} {V0 V : MVal} (hS : MS (msh M) (mrv M)) (hI : MI V0) (hP : PEq V0 V) {h p : Int} (hh : inR h) (hp : inR p) : MVi mX7_value (d + 4) [vp 94, vi h, vi p] M V (fun z V' => z = vlZ V0 h p ∧ PEq V0 V') := by
  refine mc_of (L := [vp 94, vi h, vi p]) (by decide +kernel) (Nat.le_of_ble_eq_true rfl) rfl ?_
  have n8 := nP_le V0
  refine iX7_value_0 (iX7_value_1 ?_)
  refine jX7_value_2 hS (sp_isHouse hS hI.t hP hh) ?_
  rintro z V1 ⟨rfl, hR⟩
  refine iX7_value_5 bzR (fun h0 => have g1 := bz_eq h0; ?_) (fun h0 => have g1 := bz_ne h0; ?_)
  · refine iX7_value_25 (iX7_value_27 ?_)
    exact ⟨V1, rfl, by unfold vlZ; rw [if_neg (fun z => g1 z.1)], hR.1⟩
  refine iX7_value_8 (iX7_value_9 ?_)
  refine jX7_value_10 hS (sp_isPerson hS hI.t hR.1 hp) ?_
  rintro z V2 ⟨rfl, hR2⟩
  refine iX7_value_13 bzR (fun h0 => have g2 := bz_eq h0; ?_) (fun h0 => have g2 := bz_ne h0; ?_)
  · refine iX7_value_25 (iX7_value_27 ?_)
    exact ⟨V2, rfl, by unfold vlZ; rw [if_neg (fun z => g2 z.2)], hR2.1⟩
  · obtain ⟨p, rfl⟩ := Int.eq_ofNat_of_zero_le g2.1
    obtain ⟨h, rfl⟩ := Int.eq_ofNat_of_zero_le g1.1
    refine iX7_value_16 (iX7_value_17 (iX7_value_18 ?_))
    refine jX7_value_19 hS (sp_valueOf hS hI hR2 (h := h) (p := p) (by omega) (by omega)) ?_
    rintro z V3 ⟨rfl, rfl⟩
    refine iX7_value_22 (iX7_value_27 ?_)
    exact ⟨V2, rfl, by unfold vlZ; rw [if_pos ⟨g1, g2⟩]; rfl, hR2.1⟩
/-! changes -/
abbrev chP (V : MVal) (a b : Nat) : Prop := ow V a ≠ ow V b ∧ vlF V a (ow V a).toNat < vlF V b (ow V a).toNat ∧ vlF V b (ow V b).toNat < vlF V a (ow V b).toNat
set_option maxHeartbeats 2000000 in
theorem sp_isChange {d : Nat} {M : MH} {V0 V : MVal} (hS : MS (msh M) (mrv M)) (hI : MI V0) (hR : RSt V0 V) {a b : Nat} (ha : a < nH V0) (hb : b < nH V0) : MVi mX7_isChange (d + 1) [vp 94, vi a, vi b] M V (fun z V' => z = bz (chP V0 a b) ∧ V = V') := by
  refine mc_of (L := [vp 94, vi a, vi b, vu, vu]) (by decide +kernel) (Nat.le_of_ble_eq_true rfl) rfl ?_
  have h8 := nH_le V0
  have ra := (ow_rng ha).1
  have rb := (ow_rng hb).1
  obtain ⟨x, hx⟩ := Int.eq_ofNat_of_zero_le ra.1
  obtain ⟨y, hy⟩ := Int.eq_ofNat_of_zero_le rb.1
  have v1 := vlF_rng hI hb (p := x) (by omega)
  have v2 := vlF_rng hI ha (p := x) (by omega)
  have v3 := vlF_rng hI ha (p := y) (by omega)
  have v4 := vlF_rng hI hb (p := y) (by omega)
  have c : chP V0 a b ↔ (x : Int) ≠ y ∧ vlF V0 a x < vlF V0 b x ∧ vlF V0 b y < vlF V0 a y := by
    unfold chP
    rw [hx, hy, Int.toNat_natCast, Int.toNat_natCast]
  have no : ¬ chP V0 a b → MW mX7_isChange (d + 1) 57 [vp 94, vi a, vi b, vi x, vi y] [] (sI M V) (Vi M (fun z V' => z = bz (chP V0 a b) ∧ V = V')) := by
    intro h
    refine iX7_isChange_57 (iX7_isChange_58 ?_ ?_)
    · exact Or.inl rfl
    · exact ⟨V, rfl, (bz_f h).symm, rfl⟩
  refine iX7_isChange_0 (jX7_isChange_1 hS (iX7_isChange_4 (jX7_isChange_5 hS ⟨by omega, by omega⟩ ?_)))
  rw [Int.toNat_natCast, (hR.2.2.2.1 a ha).1.trans hx]
  refine iX7_isChange_6 (iX7_isChange_7 (jX7_isChange_8 hS (iX7_isChange_11 (jX7_isChange_12 hS ⟨by omega, by omega⟩ ?_))))
  rw [Int.toNat_natCast, (hR.2.2.2.1 b hb).1.trans hy]
  refine iX7_isChange_13 (iX7_isChange_15 (iX7_isChange_16 (iX7_isChange_18 (by omega) (by omega) (fun g => ?_) (fun g => ?_))))
  · exact no (fun z => (c.mp z).1 g)
  refine iX7_isChange_21 (iX7_isChange_22 (iX7_isChange_23 ?_))
  refine jX7_isChange_24 hS (sp_valueOf hS hI hR hb (p := x) (by omega)) ?_
  rintro z V1 ⟨rfl, rfl⟩
  refine iX7_isChange_27 (iX7_isChange_28 (iX7_isChange_29 ?_))
  refine jX7_isChange_30 hS (sp_valueOf hS hI hR ha (p := x) (by omega)) ?_
  rintro z V1 ⟨rfl, rfl⟩
  refine iX7_isChange_33 (by omega) (by omega) (fun g1 => ?_) (fun g1 => ?_)
  · exact no (fun z => by have := (c.mp z).2.1; omega)
  refine iX7_isChange_36 (iX7_isChange_37 (iX7_isChange_38 ?_))
  refine jX7_isChange_40 hS (sp_valueOf hS hI hR ha (p := y) (by omega)) ?_
  rintro z V1 ⟨rfl, rfl⟩
  refine iX7_isChange_43 (iX7_isChange_44 (iX7_isChange_45 ?_))
  refine jX7_isChange_47 hS (sp_valueOf hS hI hR hb (p := y) (by omega)) ?_
  rintro z V1 ⟨rfl, rfl⟩
  refine iX7_isChange_50 (by omega) (by omega) (fun g2 => ?_) (fun g2 => ?_)
  · exact no (fun z => by have := (c.mp z).2.2; omega)
  · refine iX7_isChange_53 (iX7_isChange_54 (iX7_isChange_58 ?_ ?_))
    · exact Or.inr rfl
    · exact ⟨V, rfl, (bz_t (c.mpr ⟨g, by omega, by omega⟩)).symm, rfl⟩
def chZ (V : MVal) (a b : Int) : Int := if (0 ≤ a ∧ a < nH V) ∧ (0 ≤ b ∧ b < nH V) ∧ a ≠ b then bz (chP V a.toNat b.toNat) else -2
theorem sp_change {d : Nat} {M : MH} {V0 V : MVal} (hS : MS (msh M) (mrv M)) (hI : MI V0) (hP : PEq V0 V) {a b : Int} (ha : inR a) (hb : inR b) : MVi mX7_change (d + 4) [vp 94, vi a, vi b] M V (fun z V' => z = chZ V0 a b ∧ PEq V0 V') := by
  refine mc_of (L := [vp 94, vi a, vi b]) (by decide +kernel) (Nat.le_of_ble_eq_true rfl) rfl ?_
  have no : ∀ V1, PEq V0 V1 → ¬ ((0 ≤ a ∧ a < nH V0) ∧ (0 ≤ b ∧ b < nH V0) ∧ a ≠ b) → MW mX7_change (d + 4) 21 [vp 94, vi a, vi b] [] (sI M V1) (Vi M (fun z V' => z = chZ V0 a b ∧ PEq V0 V')) := by
    intro V1 h1 h2
    refine iX7_change_21 (iX7_change_23 (iX7_change_40 ?_))
    exact ⟨V1, rfl, by unfold chZ; rw [if_neg h2], h1⟩
  refine iX7_change_0 (iX7_change_1 ?_)
  refine jX7_change_2 hS (sp_isHouse hS hI.t hP ha) ?_
  rintro z V1 ⟨rfl, hR⟩
  refine iX7_change_5 bzR (fun h0 => have g1 := bz_eq h0; ?_) (fun h0 => have g1 := bz_ne h0; ?_)
  · exact no V1 hR.1 (fun z => g1 z.1)
  refine iX7_change_8 (iX7_change_9 ?_)
  refine jX7_change_10 hS (sp_isHouse hS hI.t hR.1 hb) ?_
  rintro z V2 ⟨rfl, hR2⟩
  refine iX7_change_13 bzR (fun h0 => have g2 := bz_eq h0; ?_) (fun h0 => have g2 := bz_ne h0; ?_)
  · exact no V2 hR2.1 (fun z => g2 z.2.1)
  refine iX7_change_16 (iX7_change_17 (iX7_change_18 (by omega) (by omega) (fun g3 => ?_) (fun g3 => ?_)))
  rotate_left
  · exact no V2 hR2.1 (fun z => z.2.2 (by omega))
  obtain ⟨a, rfl⟩ := Int.eq_ofNat_of_zero_le g1.1
  obtain ⟨b, rfl⟩ := Int.eq_ofNat_of_zero_le g2.1
  refine iX7_change_26 (iX7_change_27 (iX7_change_28 ?_))
  refine jX7_change_29 hS (sp_isChange hS hI hR2 (a := a) (b := b) (by omega) (by omega)) ?_
  rintro z V3 ⟨rfl, rfl⟩
  have e : chZ V0 a b = bz (chP V0 a b) := by unfold chZ; rw [if_pos ⟨g1, g2, g3⟩]; rfl
  refine iX7_change_32 bzR (fun h0 => have g4 := bz_eq h0; ?_) (fun h0 => have g4 := bz_ne h0; ?_)
  · refine iX7_change_39 (iX7_change_40 ?_)
    exact ⟨V2, rfl, by rw [e, bz_f g4], hR2.1⟩
  · refine iX7_change_35 (iX7_change_36 (iX7_change_40 ?_))
    exact ⟨V2, rfl, by rw [e, bz_t g4], hR2.1⟩
def chN (V : MVal) : Int := sumN (fun a => sumN (fun b => bz (chP V a b)) a) (nH V)
set_option maxHeartbeats 2000000 in
theorem sp_changesNow {d : Nat} {M : MH} {V0 V : MVal} (hS : MS (msh M) (mrv M)) (hI : MI V0) (hP : PEq V0 V) : MVi mX7_changesNow (d + 3) [vp 94] M V (fun z V' => z = chN V0 ∧ RSt V0 V') := by
  refine mc_of (L := [vp 94, vu, vu, vu]) (by decide +kernel) (Nat.le_of_ble_eq_true rfl) rfl ?_
  refine iX7_changesNow_0 ?_
  refine jX7_changesNow_1 hS (sp_reads hS hI.t hP) ?_
  intro V1 hR
  have h8 := nH_le V0
  have e2 := hR.2.1
  refine iX7_changesNow_4 (iX7_changesNow_5 (iX7_changesNow_6 (iX7_changesNow_7 ?_)))
  have loop : ∀ f a : Nat, ∀ m3 : MV, a + f = nH V0 → MW mX7_changesNow (d + 3) 8 [vp 94, vi (sumN (fun a => sumN (fun b => bz (chP V0 a b)) a) a), vi a, m3] [] (sI M V1) (Vi M (fun z V' => z = chN V0 ∧ RSt V0 V')) := by
    intro f
    induction f with
    | zero =>
      intro a m3 h1
      have : a = nH V0 := by omega
      subst this
      refine iX7_changesNow_8 (iX7_changesNow_9 (jX7_changesNow_10 hS (iX7_changesNow_13 (by omega) (by omega) (fun g => ?_) (fun g => ?_))))
      · refine iX7_changesNow_52 (iX7_changesNow_53 ?_)
        exact ⟨V1, rfl, rfl, hR⟩
      · omega
    | succ f ih =>
      intro a m3 h1
      refine iX7_changesNow_8 (iX7_changesNow_9 (jX7_changesNow_10 hS (iX7_changesNow_13 (by omega) (by omega) (fun g => ?_) (fun g => ?_))))
      · omega
      refine iX7_changesNow_16 (iX7_changesNow_17 ?_)
      have il : ∀ fb b : Nat, b + fb = a → MW mX7_changesNow (d + 3) 18 [vp 94, vi (sumN (fun a => sumN (fun b => bz (chP V0 a b)) a) a + sumN (fun b => bz (chP V0 a b)) b), vi a, vi b] [] (sI M V1) (Vi M (fun z V' => z = chN V0 ∧ RSt V0 V')) := by
        intro fb
        induction fb with
        | zero =>
          intro b q1
          have : b = a := by omega
          subst this
          refine iX7_changesNow_18 (iX7_changesNow_19 (iX7_changesNow_20 (by omega) (by omega) (fun g1 => ?_) (fun g1 => ?_)))
          · refine iX7_changesNow_46 (iX7_changesNow_49 ?_)
            exact ih (b + 1) _ (by omega)
          · omega
        | succ fb ihb =>
          intro b q1
          have fin : ∀ z : Int, z = bz (chP V0 a b) → MW mX7_changesNow (d + 3) 38 [vp 94, vi (sumN (fun a => sumN (fun b => bz (chP V0 a b)) a) a + sumN (fun b => bz (chP V0 a b)) b), vi a, vi b] [vi z, vi (sumN (fun a => sumN (fun b => bz (chP V0 a b)) a) a + sumN (fun b => bz (chP V0 a b)) b)] (sI M V1) (Vi M (fun z V' => z = chN V0 ∧ RSt V0 V')) := by
            rintro z rfl
            refine iX7_changesNow_38 (iX7_changesNow_39 (iX7_changesNow_40 (iX7_changesNow_43 ?_)))
            rw [Int.add_assoc]
            exact ihb (b + 1) (by omega)
          refine iX7_changesNow_18 (iX7_changesNow_19 (iX7_changesNow_20 (by omega) (by omega) (fun g1 => ?_) (fun g1 => ?_)))
          · omega
          refine iX7_changesNow_23 (iX7_changesNow_24 (iX7_changesNow_25 (iX7_changesNow_26 ?_)))
          refine jX7_changesNow_27 hS (sp_isChange hS hI hR (a := a) (b := b) (by omega) (by omega)) ?_
          rintro z V3 ⟨rfl, rfl⟩
          refine iX7_changesNow_30 bzR (fun h0 => have g2 := bz_eq h0; ?_) (fun h0 => have g2 := bz_ne h0; ?_)
          · refine iX7_changesNow_37 ?_
            exact fin 0 (bz_f g2).symm
          · refine iX7_changesNow_33 (iX7_changesNow_34 ?_)
            exact fin 1 (bz_t g2).symm
      have := il a 0 (by omega)
      rw [show sumN (fun a => sumN (fun b => bz (chP V0 a b)) a) a + sumN (fun b => bz (chP V0 a b)) 0 = sumN (fun a => sumN (fun b => bz (chP V0 a b)) a) a from Int.add_zero _] at this
      exact this
  exact loop (nH V0) 0 _ (by omega)
theorem sp_changes {d : Nat} {M : MH} {V0 V : MVal} (hS : MS (msh M) (mrv M)) (hI : MI V0) (hP : PEq V0 V) : MVi mX7_changes (d + 4) [vp 94] M V (fun z V' => z = chN V0 ∧ PEq V0 V') := by
  refine mc_of (L := [vp 94]) (by decide +kernel) (Nat.le_of_ble_eq_true rfl) rfl ?_
  refine iX7_changes_0 ?_
  refine jX7_changes_1 hS (sp_changesNow hS hI hP) ?_
  rintro z V1 ⟨rfl, h⟩
  refine iX7_changes_4 ?_
  exact ⟨V1, rfl, rfl, h.1⟩
