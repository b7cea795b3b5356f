/-! the model: laws, sales, what is so after them, worths -/
theorem sp_meets {d : Nat} {M : MH} {V : MVal} (hS : MS (msh M) (mrv M)) {k : Int} : MVi mX7_meets d [vp 94, vi k] M V (fun z V' => z = -10 - k ∧ u2 V 94 32 k = V') := by
  refine mc_of (L := [vp 94, vi k]) (by decide +kernel) (Nat.le_of_ble_eq_true rfl) rfl ?_
  refine iX7_meets_0 (iX7_meets_1 (jX7_meets_2 hS (iX7_meets_5 (iX7_meets_7 (iX7_meets_8 (iX7_meets_9 ?_))))))
  exact ⟨_, rfl, rfl, rfl⟩
def lwZ (V : MVal) (w v : Int) : Int := if (0 ≤ w ∧ w ≤ 2) ∧ 0 ≤ v ∧ v ≤ 1 then V 101 w.toNat else -2
def lwW (V : MVal) (w v : Int) : MVal := if (0 ≤ w ∧ w ≤ 2) ∧ 0 ≤ v ∧ v ≤ 1 then u2 V 101 w.toNat v else V
theorem sp_law {d : Nat} {M : MH} {V0 V : MVal} (hS : MS (msh M) (mrv M)) (hI : MI V0) (hP : PEq V0 V) {w v : Int} (hw : inR w) (hv : inR v) : MVi mX7_law (d + 1) [vp 94, vi w, vi v] M V (fun z V' => z = lwZ V0 w v ∧ PEq (lwW V0 w v) V') := by
  refine mc_of (L := [vp 94, vi w, vi v, vu]) (by decide +kernel) (Nat.le_of_ble_eq_true rfl) rfl ?_
  unfold lwZ lwW
  have no : ¬ ((0 ≤ w ∧ w ≤ 2) ∧ 0 ≤ v ∧ v ≤ 1) → MW mX7_law (d + 1) 18 [vp 94, vi w, vi v, vu] [] (sI M V) (Vi M (fun z V' => z = (if (0 ≤ w ∧ w ≤ 2) ∧ 0 ≤ v ∧ v ≤ 1 then V0 101 w.toNat else -2) ∧ PEq (if (0 ≤ w ∧ w ≤ 2) ∧ 0 ≤ v ∧ v ≤ 1 then u2 V0 101 w.toNat v else V0) V')) := by
    intro g
    refine iX7_law_18 (iX7_law_20 ?_)
    exact ⟨V, rfl, by rw [if_neg g], by rw [if_neg g]; exact hP⟩
  refine iX7_law_0 (iX7_law_1 (iX7_law_2 (jX7_law_3 (sp_X7_in (by omega) (by omega) (by omega)) (iX7_law_6 bzR (fun h0 => have g1 := bz_eq h0; ?_) (fun h0 => have g1 := bz_ne h0; ?_)))))
  · exact no (by omega)
  · refine iX7_law_9 (iX7_law_10 (iX7_law_11 (jX7_law_12 (sp_X7_in (by omega) (by omega) (by omega)) (iX7_law_15 bzR (fun h0 => have g2 := bz_ne h0; ?_) (fun h0 => have g2 := bz_eq h0; ?_)))))
    · refine iX7_law_21 (jX7_law_22 hS (iX7_law_25 (jX7_law_26 hS ⟨by omega, by omega⟩ (iX7_law_27 (iX7_law_28 (jX7_law_29 hS (iX7_law_32 (iX7_law_33 (jX7_law_34 hS ⟨by omega, by omega⟩ (iX7_law_35 (iX7_law_36 ?_)))))))))))
      exact ⟨_, rfl, by rw [if_pos ⟨g1, g2⟩, hP.1 101 rfl], by rw [if_pos ⟨g1, g2⟩]; exact hP.wr 101 _ _⟩
    · exact no (by omega)
abbrev saC (h b : Int) : Prop := (0 ≤ h ∧ h ≤ 7) ∧ 0 ≤ b ∧ b ≤ 7
def saZ (V : MVal) (h b : Int) : Int := if saC h b then (if V 94 9 = 12 then -4 else V 94 9 + 1) else -2
def saW (V : MVal) (h b : Int) : MVal := if saC h b then (if V 94 9 = 12 then V else u2 (u2 (u2 V 102 (V 94 9).toNat h) 103 (V 94 9).toNat b) 94 9 (V 94 9 + 1)) else V
set_option maxHeartbeats 1000000 in
theorem sp_saleMore {d : Nat} {M : MH} {V0 V : MVal} (hS : MS (msh M) (mrv M)) (hI : MI V0) (hP : PEq V0 V) {h b : Int} (hh : inR h) (hb : inR b) : MVi mX7_saleMore (d + 2) [vp 94, vi h, vi b] M V (fun z V' => z = saZ V0 h b ∧ PEq (saW V0 h b) V' ∧ ∀ q, q ≠ 94 → q ≠ 102 → q ≠ 103 → V' q = V q) := by
  refine mc_of (L := [vp 94, vi h, vi b]) (by decide +kernel) (Nat.le_of_ble_eq_true rfl) rfl ?_
  have hs := hI.s
  have e9 := hP.2.1
  have no : ¬ saC h b → MW mX7_saleMore (d + 2) 14 [vp 94, vi h, vi b] [] (sI M V) (Vi M (fun z V' => z = saZ V0 h b ∧ PEq (saW V0 h b) V' ∧ ∀ q, q ≠ 94 → q ≠ 102 → q ≠ 103 → V' q = V q)) := by
    intro g
    refine iX7_saleMore_14 (iX7_saleMore_16 ?_)
    exact ⟨V, rfl, by unfold saZ; rw [if_neg g], by unfold saW; rw [if_neg g]; exact hP, fun _ _ _ _ => rfl⟩
  refine iX7_saleMore_0 (jX7_saleMore_1 (sp_X7_isEight (by omega)) (iX7_saleMore_4 bzR (fun h0 => have g1 := bz_eq h0; ?_) (fun h0 => have g1 := bz_ne h0; ?_)))
  · exact no (fun z => g1 z.1)
  · refine iX7_saleMore_7 (jX7_saleMore_8 (sp_X7_isEight (by omega)) (iX7_saleMore_11 bzR (fun h0 => have g2 := bz_ne h0; ?_) (fun h0 => have g2 := bz_eq h0; ?_)))
    · refine iX7_saleMore_17 (jX7_saleMore_18 hS (iX7_saleMore_21 (iX7_saleMore_23 (by omega) (by omega) (fun g3 => ?_) (fun g3 => ?_))))
      · refine iX7_saleMore_29 (jX7_saleMore_30 hS (iX7_saleMore_33 (jX7_saleMore_34 hS (iX7_saleMore_37 (jX7_saleMore_38 hS ⟨by omega, by omega⟩ (iX7_saleMore_39 (jX7_saleMore_40 hS (iX7_saleMore_43 (jX7_saleMore_44 hS ?_)))))))))
        rw [u2_rd (by decide), e9]
        refine iX7_saleMore_47 (jX7_saleMore_48 hS ⟨by omega, by omega⟩ (iX7_saleMore_49 (iX7_saleMore_50 (jX7_saleMore_51 hS ?_))))
        rw [u2_rd (by decide), u2_rd (by decide), e9]
        refine iX7_saleMore_54 (iX7_saleMore_55 (jX7_saleMore_56 hS (iX7_saleMore_59 (jX7_saleMore_60 hS (iX7_saleMore_63 ?_)))))
        rw [u2_at]
        refine ⟨_, rfl, ?_, ?_, fun q h1 h2 h3 => ?_⟩
        · unfold saZ; rw [if_pos ⟨g1, g2⟩, if_neg (by omega)]
        · unfold saW; rw [if_pos ⟨g1, g2⟩, if_neg (by omega)]
          exact ((hP.wr _ _ _).wr _ _ _).wr _ _ _
        · rw [u2_ne h1, u2_ne h3, u2_ne h2]
      · refine iX7_saleMore_26 (iX7_saleMore_28 ?_)
        exact ⟨V, rfl, by unfold saZ; rw [if_pos ⟨g1, g2⟩, if_pos (by omega)], by unfold saW; rw [if_pos ⟨g1, g2⟩, if_pos (by omega)]; exact hP, fun _ _ _ _ => rfl⟩
    · exact no (fun z => g2 z.2)
theorem sp_sale {d : Nat} {M : MH} {V0 V : MVal} (hS : MS (msh M) (mrv M)) (hI : MI V0) (hP : PEq V0 V) {h b : Int} (hh : inR h) (hb : inR b) : MVi mX7_sale (d + 3) [vp 94, vi h, vi b] M V (fun z V' => z = saZ V0 h b ∧ PEq (saW V0 h b) V') := by
  refine mc_of (L := [vp 94, vi h, vi b]) (by decide +kernel) (Nat.le_of_ble_eq_true rfl) rfl ?_
  refine iX7_sale_0 (iX7_sale_1 (iX7_sale_2 ?_))
  refine jX7_sale_3 hS (sp_saleMore hS hI hP hh hb) ?_
  rintro z V1 ⟨h1, h2, -⟩
  refine iX7_sale_6 ?_
  exact ⟨V1, rfl, h1, h2⟩
def udZ (V : MVal) : Int := if V 94 9 = 0 then -3 else V 94 9 - 1
def udW (V : MVal) : MVal := if V 94 9 = 0 then V else u2 V 94 9 (V 94 9 - 1)
theorem sp_undo {d : Nat} {M : MH} {V0 V : MVal} (hS : MS (msh M) (mrv M)) (hI : MI V0) (hP : PEq V0 V) : MVi mX7_undo d [vp 94] M V (fun z V' => z = udZ V0 ∧ PEq (udW V0) V') := by
  refine mc_of (L := [vp 94]) (by decide +kernel) (Nat.le_of_ble_eq_true rfl) rfl ?_
  have hs := hI.s
  have e9 := hP.2.1
  unfold udZ udW
  refine iX7_undo_0 (jX7_undo_1 hS (iX7_undo_4 (by omega) (fun g => ?_) (fun g => ?_)))
  · refine iX7_undo_10 (iX7_undo_11 (jX7_undo_12 hS (iX7_undo_15 (iX7_undo_16 (jX7_undo_17 hS (iX7_undo_20 (jX7_undo_21 hS (iX7_undo_24 ?_))))))))
    rw [u2_at, e9]
    exact ⟨_, rfl, by rw [if_neg (by omega)], by rw [if_neg (by omega)]; exact hP.wr _ _ _⟩
  · refine iX7_undo_7 (iX7_undo_9 ?_)
    exact ⟨V, rfl, by rw [if_pos (by omega)], by rw [if_pos (by omega)]; exact hP⟩
/-! sales read off a sheet -/
theorem saW_MI {V : MVal} (hI : MI V) (h b : Int) : MI (saW V h b) := by
  unfold saW
  by_cases c : saC h b
  · rw [if_pos c]
    by_cases c2 : V 94 9 = 12
    · rw [if_pos c2]; exact hI
    · rw [if_neg c2]
      have hs := hI.s
      have rd : ∀ q j, q ≠ 94 → q ≠ 102 → q ≠ 103 → u2 (u2 (u2 V 102 (V 94 9).toNat h) 103 (V 94 9).toNat b) 94 9 (V 94 9 + 1) q j = V q j := fun q j h1 h2 h3 => by rw [u2_ne h1, u2_ne h3, u2_ne h2]
      have rf : ∀ j, j ≠ 9 → u2 (u2 (u2 V 102 (V 94 9).toNat h) 103 (V 94 9).toNat b) 94 9 (V 94 9 + 1) 94 j = V 94 j := fun j h1 => by rw [u2_off h1, u2_ne (by decide), u2_ne (by decide)]
      refine ⟨⟨?_, ?_, ?_⟩, ?_, ?_, ?_, ?_, ?_, ?_, ?_, ?_, ?_, ?_⟩
      · rw [rd _ _ (by decide) (by decide) (by decide)]; exact hI.t.1
      · rw [rd _ _ (by decide) (by decide) (by decide)]; exact hI.t.2.1
      · intro k hk; rw [rd _ _ (by decide) (by decide) (by decide)]; exact hI.t.2.2 k hk
      · intro k hk; rw [rd _ _ (by decide) (by decide) (by decide)]; exact hI.l k hk
      · unfold MIs; rw [u2_at]; omega
      · intro k hk
        have := hI.se k hk
        rw [u2_ne (show 102 ≠ 94 by decide), u2_ne (show 103 ≠ 94 by decide), u2_ne (show 102 ≠ 103 by decide)]
        obtain ⟨c1, c3⟩ := c
        by_cases e : k = (V 94 9).toNat
        · rw [e, u2_at, u2_at]; exact ⟨c1, c3⟩
        · rw [u2_off e, u2_off e, u2_ne (show 103 ≠ 102 by decide)]; exact this
      · intro k hk; rw [rd _ _ (by decide) (by decide) (by decide), rd _ _ (by decide) (by decide) (by decide)]; exact hI.w k hk
      · intro k hk; rw [rd _ _ (by decide) (by decide) (by decide), rd _ _ (by decide) (by decide) (by decide)]; exact hI.z k hk
      · unfold MIf; rw [rf _ (by decide)]; exact hI.f
      · intro k hk; rw [rd _ _ (by decide) (by decide) (by decide), rd _ _ (by decide) (by decide) (by decide)]; exact hI.fe k hk
      · intro k hk; rw [rd _ _ (by decide) (by decide) (by decide), rd _ _ (by decide) (by decide) (by decide), rd _ _ (by decide) (by decide) (by decide)]; exact hI.h k hk
      · intro k j hk hj; rw [rd _ _ (by decide) (by decide) (by decide), rd _ _ (by decide) (by decide) (by decide)]; exact hI.i k j hk hj
      · unfold MIg; rw [rf _ (by decide)]; exact hI.g
  · rw [if_neg c]; exact hI
theorem saW_q {V : MVal} {h b : Int} {q : Nat} (h1 : q ≠ 94) (h2 : q ≠ 102) (h3 : q ≠ 103) : saW V h b q = V q := by
  unfold saW
  split
  · split
    · rfl
    · rw [u2_ne h1, u2_ne h3, u2_ne h2]
  · rfl
theorem saZ_rng {V : MVal} (hI : MI V) (h b : Int) : -4 ≤ saZ V h b ∧ saZ V h b ≤ 12 := by
  have := hI.s
  unfold saZ
  split
  · split <;> omega
  · omega
def rdL (s : Nat) : Nat → Nat → MVal → Nat × MVal
  | 0, n, V => (n, V)
  | f + 1, n, V => if 2 * (n : Int) + 1 < V 119 s ∧ 0 < saZ V (V 120 (48 * s + 2 * n)) (V 120 (48 * s + 2 * n + 1)) then rdL s f (n + 1) (saW V (V 120 (48 * s + 2 * n)) (V 120 (48 * s + 2 * n + 1))) else (n, if 2 * (n : Int) + 1 < V 119 s then saW V (V 120 (48 * s + 2 * n)) (V 120 (48 * s + 2 * n + 1)) else V)
def rdZ (V : MVal) (s : Int) : Int := if 0 ≤ s ∧ s ≤ 3 then (if V 117 s.toNat = 0 then -11 else ((rdL s.toNat 24 0 V).1 : Int)) else -2
def rdW (V : MVal) (s : Int) : MVal := if 0 ≤ s ∧ s ≤ 3 then (if V 117 s.toNat = 0 then u2 V 94 32 1 else (rdL s.toNat 24 0 V).2) else V
set_option maxHeartbeats 2000000 in
theorem sp_read {d : Nat} {M : MH} {V0 V : MVal} (hS : MS (msh M) (mrv M)) (hI : MI V0) (hP : PEq V0 V) {s : Int} (hs : inR s) : MVi mX7_read (d + 3) [vp 94, vi s] M V (fun z V' => z = rdZ V0 s ∧ PEq (rdW V0 s) V') := by
  refine mc_of (L := [vp 94, vi s, vu]) (by decide +kernel) (Nat.le_of_ble_eq_true rfl) rfl ?_
  refine iX7_read_0 (jX7_read_1 (sp_X7_isSheet (by omega)) (iX7_read_4 bzR (fun h0 => have g1 := bz_ne h0; ?_) (fun h0 => have g1 := bz_eq h0; ?_)))
  rotate_left
  · refine iX7_read_7 (iX7_read_9 ?_)
    exact ⟨V, rfl, by unfold rdZ; rw [if_neg g1], by unfold rdW; rw [if_neg g1]; exact hP⟩
  obtain ⟨s, rfl⟩ := Int.eq_ofNat_of_zero_le g1.1
  have hs4 : s < 4 := by omega
  have hh := hI.h s hs4
  have e117 := hP.1 117 rfl
  refine iX7_read_10 (jX7_read_11 hS (iX7_read_14 (jX7_read_15 hS ⟨by omega, by omega⟩ ?_)))
  rw [Int.toNat_natCast, e117]
  refine iX7_read_16 (by omega) (fun g2 => ?_) (fun g2 => ?_)
  rotate_left
  · refine iX7_read_19 (iX7_read_20 ?_)
    refine jX7_read_21 hS (sp_meets hS) ?_
    rintro z V1 ⟨rfl, rfl⟩
    refine iX7_read_24 ?_
    refine ⟨_, rfl, ?_, ?_⟩
    · unfold rdZ; rw [if_pos g1, Int.toNat_natCast, if_pos (by omega)]; rfl
    · unfold rdW; rw [if_pos g1, Int.toNat_natCast, if_pos (by omega)]; exact hP.wr _ _ _
  have loop : ∀ f n : Nat, ∀ (U W : MVal), n + f = 24 → MI U → PEq U W → U 119 s = V0 119 s → U 120 = V0 120 → MW mX7_read (d + 3) 27 [vp 94, vi s, vi n] [] (sI M W) (Vi M (fun z V' => z = ((rdL s f n U).1 : Int) ∧ PEq (rdL s f n U).2 V')) := by
    intro f
    induction f with
    | zero =>
      intro n U W h1 hU hQ h2 h3
      have e := congrFun (hQ.1 119 rfl) s
      refine iX7_read_27 (iX7_read_28 (iX7_read_29 (iX7_read_30 (iX7_read_31 (iX7_read_32 (jX7_read_33 hS (iX7_read_36 (jX7_read_37 hS ⟨by omega, by omega⟩ ?_))))))))
      rw [Int.toNat_natCast, e, h2]
      refine iX7_read_38 (by omega) (by omega) (fun g => ?_) (fun g => ?_)
      · refine iX7_read_82 (iX7_read_83 ?_)
        exact ⟨W, rfl, rfl, hQ⟩
      · omega
    | succ f ih =>
      intro n U W h1 hU hQ h2 h3
      have e := congrFun (hQ.1 119 rfl) s
      have e2 := hQ.1 120 rfl
      have t1 : (48 * (s : Int) + 2 * (n : Int)).toNat = 48 * s + 2 * n := by omega
      have t2 : (48 * (s : Int) + 2 * (n : Int) + 1).toNat = 48 * s + 2 * n + 1 := by omega
      refine iX7_read_27 (iX7_read_28 (iX7_read_29 (iX7_read_30 (iX7_read_31 (iX7_read_32 (jX7_read_33 hS (iX7_read_36 (jX7_read_37 hS ⟨by omega, by omega⟩ ?_))))))))
      rw [Int.toNat_natCast, e]
      refine iX7_read_38 (by omega) (by omega) (fun g => ?_) (fun g => ?_)
      · refine iX7_read_82 (iX7_read_83 ?_)
        refine ⟨W, rfl, ?_, ?_⟩
        · unfold rdL; rw [if_neg (by omega)]
        · unfold rdL; rw [if_neg (by omega)]; simp only [if_neg (show ¬ 2 * (n : Int) + 1 < U 119 s by omega)]; exact hQ
      · have r1 := hU.i s (2 * n) hs4 (by omega)
        have r2 := hU.i s (2 * n + 1) hs4 (by omega)
        rw [← Nat.add_assoc] at r2
        refine iX7_read_41 (iX7_read_42 (jX7_read_43 hS (iX7_read_46 (iX7_read_48 (iX7_read_49 (iX7_read_50 (iX7_read_51 (iX7_read_52 (iX7_read_53 (jX7_read_54 hS ⟨by omega, by omega⟩ (iX7_read_55 (jX7_read_56 hS (iX7_read_59 (iX7_read_61 (iX7_read_62 (iX7_read_63 (iX7_read_64 (iX7_read_65 (iX7_read_66 (iX7_read_67 (iX7_read_68 (jX7_read_69 hS ⟨by omega, by omega⟩ ?_))))))))))))))))))))))
        rw [t1, t2, e2]
        refine jX7_read_70 hS (sp_saleMore hS hU hQ r1.1 r2.1) ?_
        rintro z W2 ⟨rfl, b2, -⟩
        have r3 := saZ_rng hU (U 120 (48 * s + 2 * n)) (U 120 (48 * s + 2 * n + 1))
        refine iX7_read_73 (by omega) (fun g3 => ?_) (fun g3 => ?_)
        · refine iX7_read_82 (iX7_read_83 ?_)
          refine ⟨W2, rfl, ?_, ?_⟩
          · unfold rdL; rw [if_neg (by omega)]
          · unfold rdL; rw [if_neg (by omega)]; simp only [if_pos (show 2 * (n : Int) + 1 < U 119 s by omega)]; exact b2
        · refine iX7_read_76 (iX7_read_79 ?_)
          have := ih (n + 1) _ W2 (by omega) (saW_MI hU _ _) b2 (by rw [saW_q (by decide) (by decide) (by decide)]; exact h2) (by rw [saW_q (by decide) (by decide) (by decide)]; exact h3)
          unfold rdL
          rw [if_pos (by omega)]
          exact this
  refine iX7_read_25 (iX7_read_26 ?_)
  have := loop 24 0 V0 V rfl hI hP rfl rfl
  unfold rdZ rdW
  rw [if_pos g1, if_pos g1, Int.toNat_natCast, if_neg (by omega), if_neg (by omega)]
  exact this
/-! whose, by whom kept, how often sold, how long -/
noncomputable def whZ (V : MVal) (h k : Int) : Int := if (0 ≤ h ∧ h < nH V) ∧ 0 ≤ k ∧ k ≤ V 94 9 then (run V (pl V) k.toNat).1 h.toNat else -2
noncomputable def kpZ (V : MVal) (p k : Int) : Int := if (0 ≤ p ∧ p < nP V) ∧ 0 ≤ k ∧ k ≤ V 94 9 then (run V (pl V) k.toNat).2.1 p.toNat else -2
noncomputable def sdZ (V : MVal) (p k : Int) : Int := if (0 ≤ p ∧ p < nP V) ∧ 0 ≤ k ∧ k ≤ V 94 9 then (run V (pl V) k.toNat).2.2 p.toNat else -2
noncomputable def lnZ (V : MVal) (k : Int) : Int := if 0 ≤ k ∧ k ≤ V 94 9 - 1 then len V (pl V) k.toNat else -2
theorem sp_whose {d : Nat} {M : MH} {V0 V : MVal} (hS : MS (msh M) (mrv M)) (hI : MI V0) (hP : PEq V0 V) {h w : Int} (hh : inR h) (hw : inR w) : MVi mX7_whose (d + 4) [vp 94, vi h, vi w] M V (fun z V' => z = whZ V0 h w ∧ PEq V0 V') := by
  refine mc_of (L := [vp 94, vi h, vi w]) (by decide +kernel) (Nat.le_of_ble_eq_true rfl) rfl ?_
  have hs := hI.s
  refine iX7_whose_0 (iX7_whose_1 ?_)
  refine jX7_whose_2 hS (sp_isHouse hS hI.t hP hh) ?_
  rintro z V1 ⟨rfl, hR⟩
  have e9 := hR.1.2.1
  have n8 := nH_le V0
  refine iX7_whose_5 bzR (fun h0 => have g1 := bz_eq h0; ?_) (fun h0 => have g1 := bz_ne h0; ?_)
  · refine iX7_whose_20 (iX7_whose_22 ?_)
    exact ⟨V1, rfl, by unfold whZ; rw [if_neg (by omega)], hR.1⟩
  · refine iX7_whose_8 (iX7_whose_9 (iX7_whose_10 (jX7_whose_11 hS (jX7_whose_14 (sp_X7_in (by omega) (by omega) (by omega)) (iX7_whose_17 bzR (fun h0 => have g2 := bz_ne h0; ?_) (fun h0 => have g2 := bz_eq h0; ?_))))))
    · refine iX7_whose_23 (iX7_whose_24 ?_)
      refine jX7_whose_25 hS (sp_lays hS hI hR.1 (by omega)) ?_
      intro V2 h2
      refine iX7_whose_28 (jX7_whose_29 hS (iX7_whose_32 (jX7_whose_33 hS ⟨by omega, by omega⟩ (iX7_whose_34 ?_))))
      refine ⟨V2, rfl, ?_, h2.1.1⟩
      unfold whZ; rw [if_pos ⟨g1, by omega⟩]
      exact h2.2.1.2.2.2.2.1 h.toNat (by show h.toNat < nH V0; omega)
    · refine iX7_whose_20 (iX7_whose_22 ?_)
      exact ⟨V1, rfl, by unfold whZ; rw [if_neg (by omega)], hR.1⟩
theorem sp_keeperOf {d : Nat} {M : MH} {V0 V : MVal} (hS : MS (msh M) (mrv M)) (hI : MI V0) (hP : PEq V0 V) {h w : Int} (hh : 0 ≤ h ∧ h < nP V0) (hw : 0 ≤ w ∧ w ≤ 12) : MVi mX7_keeperOf (d + 4) [vp 94, vi h, vi w] M V (fun z V' => z = (run V0 (pl V0) w.toNat).2.1 h.toNat ∧ RSt V0 V') := by
  refine mc_of (L := [vp 94, vi h, vi w]) (by decide +kernel) (Nat.le_of_ble_eq_true rfl) rfl ?_
  have n8 := nP_le V0
  refine iX7_keeperOf_0 (iX7_keeperOf_1 ?_)
  refine jX7_keeperOf_2 hS (sp_lays hS hI hP hw) ?_
  intro V2 h2
  refine iX7_keeperOf_5 (jX7_keeperOf_6 hS (iX7_keeperOf_9 (jX7_keeperOf_10 hS ⟨by omega, by omega⟩ (iX7_keeperOf_11 ?_))))
  exact ⟨V2, rfl, (h2.2.1.2.2.2.2.2 h.toNat (by show h.toNat < nP V0; omega)).1, h2.1⟩
theorem sp_soldOf {d : Nat} {M : MH} {V0 V : MVal} (hS : MS (msh M) (mrv M)) (hI : MI V0) (hP : PEq V0 V) {h w : Int} (hh : 0 ≤ h ∧ h < nP V0) (hw : 0 ≤ w ∧ w ≤ 12) : MVi mX7_soldOf (d + 4) [vp 94, vi h, vi w] M V (fun z V' => z = (run V0 (pl V0) w.toNat).2.2 h.toNat ∧ RSt V0 V') := by
  refine mc_of (L := [vp 94, vi h, vi w]) (by decide +kernel) (Nat.le_of_ble_eq_true rfl) rfl ?_
  have n8 := nP_le V0
  refine iX7_soldOf_0 (iX7_soldOf_1 ?_)
  refine jX7_soldOf_2 hS (sp_lays hS hI hP hw) ?_
  intro V2 h2
  refine iX7_soldOf_5 (jX7_soldOf_6 hS (iX7_soldOf_9 (jX7_soldOf_10 hS ⟨by omega, by omega⟩ (iX7_soldOf_11 ?_))))
  exact ⟨V2, rfl, (h2.2.1.2.2.2.2.2 h.toNat (by show h.toNat < nP V0; omega)).2, h2.1⟩
theorem sp_lengthOf {d : Nat} {M : MH} {V0 V : MVal} (hS : MS (msh M) (mrv M)) (hI : MI V0) (hP : PEq V0 V) {w : Int} (hw : 0 ≤ w ∧ w < 12) : MVi mX7_lengthOf (d + 4) [vp 94, vi w] M V (fun z V' => z = len V0 (pl V0) w.toNat ∧ RSt V0 V') := by
  refine mc_of (L := [vp 94, vi w]) (by decide +kernel) (Nat.le_of_ble_eq_true rfl) rfl ?_
  refine iX7_lengthOf_0 (iX7_lengthOf_1 (iX7_lengthOf_2 (iX7_lengthOf_3 ?_)))
  refine jX7_lengthOf_4 hS (sp_lays hS hI hP (m := w + 1) (by omega)) ?_
  intro V2 h2
  refine iX7_lengthOf_7 (jX7_lengthOf_8 hS (iX7_lengthOf_11 ?_))
  refine ⟨V2, rfl, ?_, h2.1⟩
  rw [h2.2.2 (by omega)]
  exact congrArg (len V0 (pl V0)) (by omega)
theorem sp_keeper {d : Nat} {M : MH} {V0 V : MVal} (hS : MS (msh M) (mrv M)) (hI : MI V0) (hP : PEq V0 V) {h w : Int} (hh : inR h) (hw : inR w) : MVi mX7_keeper (d + 5) [vp 94, vi h, vi w] M V (fun z V' => z = kpZ V0 h w ∧ PEq V0 V') := by
  refine mc_of (L := [vp 94, vi h, vi w]) (by decide +kernel) (Nat.le_of_ble_eq_true rfl) rfl ?_
  have hs := hI.s
  refine iX7_keeper_0 (iX7_keeper_1 ?_)
  refine jX7_keeper_2 hS (sp_isPerson hS hI.t hP hh) ?_
  rintro z V1 ⟨rfl, hR⟩
  have e9 := hR.1.2.1
  refine iX7_keeper_5 bzR (fun h0 => have g1 := bz_eq h0; ?_) (fun h0 => have g1 := bz_ne h0; ?_)
  · refine iX7_keeper_29 (iX7_keeper_31 ?_)
    exact ⟨V1, rfl, by unfold kpZ; rw [if_neg (by omega)], hR.1⟩
  · refine iX7_keeper_8 (iX7_keeper_9 (iX7_keeper_10 (jX7_keeper_11 hS (jX7_keeper_14 (sp_X7_in (by omega) (by omega) (by omega)) (iX7_keeper_17 bzR (fun h0 => have g2 := bz_eq h0; ?_) (fun h0 => have g2 := bz_ne h0; ?_))))))
    · refine iX7_keeper_29 (iX7_keeper_31 ?_)
      exact ⟨V1, rfl, by unfold kpZ; rw [if_neg (by omega)], hR.1⟩
    · refine iX7_keeper_20 (iX7_keeper_21 (iX7_keeper_22 ?_))
      refine jX7_keeper_23 hS (sp_keeperOf hS hI hR.1 g1 (by omega)) ?_
      rintro z V2 ⟨rfl, h2⟩
      refine iX7_keeper_26 (iX7_keeper_31 ?_)
      exact ⟨V2, rfl, by unfold kpZ; rw [if_pos ⟨g1, by omega⟩], h2.1⟩
theorem sp_sold {d : Nat} {M : MH} {V0 V : MVal} (hS : MS (msh M) (mrv M)) (hI : MI V0) (hP : PEq V0 V) {h w : Int} (hh : inR h) (hw : inR w) : MVi mX7_sold (d + 5) [vp 94, vi h, vi w] M V (fun z V' => z = sdZ V0 h w ∧ PEq V0 V') := by
  refine mc_of (L := [vp 94, vi h, vi w]) (by decide +kernel) (Nat.le_of_ble_eq_true rfl) rfl ?_
  have hs := hI.s
  refine iX7_sold_0 (iX7_sold_1 ?_)
  refine jX7_sold_2 hS (sp_isPerson hS hI.t hP hh) ?_
  rintro z V1 ⟨rfl, hR⟩
  have e9 := hR.1.2.1
  refine iX7_sold_5 bzR (fun h0 => have g1 := bz_eq h0; ?_) (fun h0 => have g1 := bz_ne h0; ?_)
  · refine iX7_sold_29 (iX7_sold_31 ?_)
    exact ⟨V1, rfl, by unfold sdZ; rw [if_neg (by omega)], hR.1⟩
  · refine iX7_sold_8 (iX7_sold_9 (iX7_sold_10 (jX7_sold_11 hS (jX7_sold_14 (sp_X7_in (by omega) (by omega) (by omega)) (iX7_sold_17 bzR (fun h0 => have g2 := bz_eq h0; ?_) (fun h0 => have g2 := bz_ne h0; ?_))))))
    · refine iX7_sold_29 (iX7_sold_31 ?_)
      exact ⟨V1, rfl, by unfold sdZ; rw [if_neg (by omega)], hR.1⟩
    · refine iX7_sold_20 (iX7_sold_21 (iX7_sold_22 ?_))
      refine jX7_sold_23 hS (sp_soldOf hS hI hR.1 g1 (by omega)) ?_
      rintro z V2 ⟨rfl, h2⟩
      refine iX7_sold_26 (iX7_sold_31 ?_)
      exact ⟨V2, rfl, by unfold sdZ; rw [if_pos ⟨g1, by omega⟩], h2.1⟩
theorem sp_length {d : Nat} {M : MH} {V0 V : MVal} (hS : MS (msh M) (mrv M)) (hI : MI V0) (hP : PEq V0 V) {w : Int} (hw : inR w) : MVi mX7_length (d + 5) [vp 94, vi w] M V (fun z V' => z = lnZ V0 w ∧ PEq V0 V') := by
  refine mc_of (L := [vp 94, vi w]) (by decide +kernel) (Nat.le_of_ble_eq_true rfl) rfl ?_
  have hs := hI.s
  have e9 := hP.2.1
  refine iX7_length_0 (iX7_length_1 (iX7_length_2 (jX7_length_3 hS (iX7_length_6 (iX7_length_7 (jX7_length_8 (sp_X7_in (by omega) (by omega) (by omega)) (iX7_length_11 bzR (fun h0 => have g := bz_eq h0; ?_) (fun h0 => have g := bz_ne h0; ?_))))))))
  · refine iX7_length_22 (iX7_length_24 ?_)
    exact ⟨V, rfl, by unfold lnZ; rw [if_neg (by omega)], hP⟩
  · refine iX7_length_14 (iX7_length_15 ?_)
    refine jX7_length_16 hS (sp_lengthOf hS hI hP (by omega)) ?_
    rintro z V2 ⟨rfl, h2⟩
    refine iX7_length_19 (iX7_length_24 ?_)
    exact ⟨V2, rfl, by unfold lnZ; rw [if_pos (by omega)], h2.1⟩
/-! worths and likings -/
abbrev wtC (a b v : Int) : Prop := (0 ≤ a ∧ a ≤ 7) ∧ (0 ≤ b ∧ b ≤ 7) ∧ a ≠ b ∧ -9 ≤ v ∧ v ≤ 9
def wtZ (q : Nat) (V : MVal) (a b v : Int) : Int := if wtC a b v then V q (8 * a + b).toNat else -100002
def wtW (q : Nat) (V : MVal) (a b v : Int) : MVal := if wtC a b v then u2 V q (8 * a + b).toNat v else V
theorem sp_worth {d : Nat} {M : MH} {V0 V : MVal} (hS : MS (msh M) (mrv M)) (hI : MI V0) (hP : PEq V0 V) {a b v : Int} (ha : inR a) (hb : inR b) (hv : inR v) : MVi mX7_worth (d + 2) [vp 94, vi a, vi b, vi v] M V (fun z V' => z = wtZ 109 V0 a b v ∧ PEq (wtW 109 V0 a b v) V') := by
  refine mc_of (L := [vp 94, vi a, vi b, vi v, vu]) (by decide +kernel) (Nat.le_of_ble_eq_true rfl) rfl ?_
  have no : ¬ wtC a b v → MW mX7_worth (d + 2) 30 [vp 94, vi a, vi b, vi v, vu] [] (sI M V) (Vi M (fun z V' => z = wtZ 109 V0 a b v ∧ PEq (wtW 109 V0 a b v) V')) := by
    intro g
    refine iX7_worth_30 (iX7_worth_32 ?_)
    exact ⟨V, rfl, by unfold wtZ; rw [if_neg g], by unfold wtW; rw [if_neg g]; exact hP⟩
  refine iX7_worth_0 (jX7_worth_1 (sp_X7_isEight (by omega)) (iX7_worth_4 bzR (fun h0 => have g1 := bz_eq h0; ?_) (fun h0 => have g1 := bz_ne h0; ?_)))
  · exact no (fun z => g1 z.1)
  refine iX7_worth_7 (jX7_worth_8 (sp_X7_isEight (by omega)) (iX7_worth_11 bzR (fun h0 => have g2 := bz_eq h0; ?_) (fun h0 => have g2 := bz_ne h0; ?_)))
  · exact no (fun z => g2 z.2.1)
  refine iX7_worth_14 (iX7_worth_15 (iX7_worth_16 (by omega) (by omega) (fun g3 => ?_) (fun g3 => ?_)))
  · exact no (fun z => z.2.2.1 g3)
  refine iX7_worth_19 (iX7_worth_20 (iX7_worth_22 (jX7_worth_24 (sp_X7_in (by omega) (by omega) (by omega)) (iX7_worth_27 bzR (fun h0 => have g4 := bz_ne h0; ?_) (fun h0 => have g4 := bz_eq h0; ?_)))))
  · refine iX7_worth_33 (jX7_worth_34 hS (iX7_worth_37 (iX7_worth_39 (iX7_worth_40 (iX7_worth_41 (iX7_worth_42 (jX7_worth_43 hS ⟨by omega, by omega⟩ (iX7_worth_44 (iX7_worth_46 (jX7_worth_47 hS (iX7_worth_50 (iX7_worth_52 (iX7_worth_53 (iX7_worth_54 (iX7_worth_55 (iX7_worth_56 (jX7_worth_57 hS ⟨by omega, by omega⟩ (iX7_worth_58 (iX7_worth_60 ?_)))))))))))))))))))
    have c : wtC a b v := ⟨g1, g2, g3, g4⟩
    exact ⟨_, rfl, by unfold wtZ; rw [if_pos c, hP.1 109 rfl], by unfold wtW; rw [if_pos c]; exact hP.wr _ _ _⟩
  · exact no (fun z => g4 z.2.2.2)
theorem sp_like {d : Nat} {M : MH} {V0 V : MVal} (hS : MS (msh M) (mrv M)) (hI : MI V0) (hP : PEq V0 V) {a b v : Int} (ha : inR a) (hb : inR b) (hv : inR v) : MVi mX7_like (d + 2) [vp 94, vi a, vi b, vi v] M V (fun z V' => z = wtZ 110 V0 a b v ∧ PEq (wtW 110 V0 a b v) V') := by
  refine mc_of (L := [vp 94, vi a, vi b, vi v, vu]) (by decide +kernel) (Nat.le_of_ble_eq_true rfl) rfl ?_
  have no : ¬ wtC a b v → MW mX7_like (d + 2) 30 [vp 94, vi a, vi b, vi v, vu] [] (sI M V) (Vi M (fun z V' => z = wtZ 110 V0 a b v ∧ PEq (wtW 110 V0 a b v) V')) := by
    intro g
    refine iX7_like_30 (iX7_like_32 ?_)
    exact ⟨V, rfl, by unfold wtZ; rw [if_neg g], by unfold wtW; rw [if_neg g]; exact hP⟩
  refine iX7_like_0 (jX7_like_1 (sp_X7_isEight (by omega)) (iX7_like_4 bzR (fun h0 => have g1 := bz_eq h0; ?_) (fun h0 => have g1 := bz_ne h0; ?_)))
  · exact no (fun z => g1 z.1)
  refine iX7_like_7 (jX7_like_8 (sp_X7_isEight (by omega)) (iX7_like_11 bzR (fun h0 => have g2 := bz_eq h0; ?_) (fun h0 => have g2 := bz_ne h0; ?_)))
  · exact no (fun z => g2 z.2.1)
  refine iX7_like_14 (iX7_like_15 (iX7_like_16 (by omega) (by omega) (fun g3 => ?_) (fun g3 => ?_)))
  · exact no (fun z => z.2.2.1 g3)
  refine iX7_like_19 (iX7_like_20 (iX7_like_22 (jX7_like_24 (sp_X7_in (by omega) (by omega) (by omega)) (iX7_like_27 bzR (fun h0 => have g4 := bz_ne h0; ?_) (fun h0 => have g4 := bz_eq h0; ?_)))))
  · refine iX7_like_33 (jX7_like_34 hS (iX7_like_37 (iX7_like_39 (iX7_like_40 (iX7_like_41 (iX7_like_42 (jX7_like_43 hS ⟨by omega, by omega⟩ (iX7_like_44 (iX7_like_46 (jX7_like_47 hS (iX7_like_50 (iX7_like_52 (iX7_like_53 (iX7_like_54 (iX7_like_55 (iX7_like_56 (jX7_like_57 hS ⟨by omega, by omega⟩ (iX7_like_58 (iX7_like_60 ?_)))))))))))))))))))
    have c : wtC a b v := ⟨g1, g2, g3, g4⟩
    exact ⟨_, rfl, by unfold wtZ; rw [if_pos c, hP.1 110 rfl], by unfold wtW; rw [if_pos c]; exact hP.wr _ _ _⟩
  · exact no (fun z => g4 z.2.2.2)
