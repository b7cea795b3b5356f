/-! the model: counts, digest -/
noncomputable def smF (V : MVal) (w : Int) (p : Nat) : Int := if w = 6 then (runS V (pl V)).2.2 p else if kd V p = 2 then 1 else 0
noncomputable def smQ (V : MVal) (w : Int) : Int := if w = 0 then (nH V : Int) else if w = 1 then (nP V : Int) else sumN (smF V w) (nP V)
theorem smF_rng {V : MVal} (hI : MI V) {w : Int} {n : Nat} (hn : n ≤ nP V) : -96 ≤ sumN (smF V w) n ∧ sumN (smF V w) n ≤ 96 := by
  have n8 := nP_le V
  have := sumN_rng (f := smF V w) (B := 12) (by decide) (n := n) (fun i hi => by
    have h1 : 0 ≤ (runS V (pl V)).2.2 i ∧ (runS V (pl V)).2.2 i ≤ 12 := ((runS_NR hI (WR.pl V)).2.2.2.2.2 i (by show i < nP V; omega)).2
    unfold smF
    split
    · omega
    · split <;> omega)
  omega
set_option maxHeartbeats 4000000 in
theorem sp_sumOf {d : Nat} {M : MH} {V0 V : MVal} (hS : MS (msh M) (mrv M)) (hI : MI V0) (hP : PEq V0 V) {w : Int} (hw : 0 ≤ w ∧ w ≤ 8) : MVi mX7_sumOf (d + 4) [vp 94, vi w] M V (fun z V' => z = smQ V0 w ∧ RSt V0 V') := by
  refine mc_of (L := [vp 94, vi w, vu, vu]) (by decide +kernel) (Nat.le_of_ble_eq_true rfl) rfl ?_
  have n8 := nP_le V0
  have h8 := nH_le V0
  refine iX7_sumOf_0 (iX7_sumOf_1 (jX7_sumOf_2 hS ?_))
  rw [hP.2.1]
  refine jX7_sumOf_5 hS (sp_lays hS hI hP hI.s) ?_
  intro V1 h1
  have e5 := h1.1.2.2.1
  have e2 := h1.1.2.1
  refine iX7_sumOf_8 (iX7_sumOf_9 (iX7_sumOf_10 (iX7_sumOf_11 ?_)))
  have loop : ∀ f k : Nat, k + f = nP V0 → MW mX7_sumOf (d + 4) 12 [vp 94, vi w, vi (sumN (smF V0 w) k), vi k] [] (sI M V1) (Vi M (fun z V' => z = smQ V0 w ∧ RSt V0 V')) := by
    intro f
    induction f with
    | zero =>
      intro k q1
      have : k = nP V0 := by omega
      subst this
      unfold smQ
      refine iX7_sumOf_12 (iX7_sumOf_13 (jX7_sumOf_14 hS (iX7_sumOf_17 (by omega) (by omega) (fun g => ?_) (fun g => ?_))))
      rotate_left
      · omega
      refine iX7_sumOf_59 (iX7_sumOf_60 (by omega) (fun g1 => ?_) (fun g1 => ?_))
      rotate_left
      · refine iX7_sumOf_63 (jX7_sumOf_64 hS (iX7_sumOf_67 (iX7_sumOf_83 ?_)))
        exact ⟨V1, rfl, by rw [if_pos (by omega)]; exact e2, h1.1⟩
      rw [if_neg (by omega)]
      refine iX7_sumOf_70 (iX7_sumOf_71 (iX7_sumOf_72 (by omega) (by omega) (fun g2 => ?_) (fun g2 => ?_)))
      · refine iX7_sumOf_82 (iX7_sumOf_83 ?_)
        exact ⟨V1, rfl, by rw [if_neg (by omega)], h1.1⟩
      · refine iX7_sumOf_75 (jX7_sumOf_76 hS (iX7_sumOf_79 (iX7_sumOf_83 ?_)))
        exact ⟨V1, rfl, by rw [if_pos (by omega)]; exact e5, h1.1⟩
    | succ f ih =>
      intro k q1
      have hk : k < nP V0 := by omega
      have e1 : V1 107 k = (runS V0 (pl V0)).2.2 k := (h1.2.1.2.2.2.2.2 k hk).2
      have e4 := (h1.1.2.2.2.2 k hk).1
      have rk := kd_rng V0 k
      have fin : ∀ x : Int, x = smF V0 w k → MW mX7_sumOf (d + 4) 51 [vp 94, vi w, vi (sumN (smF V0 w) k), vi k] [vi x, vi (sumN (smF V0 w) k)] (sI M V1) (Vi M (fun z V' => z = smQ V0 w ∧ RSt V0 V')) := by
        rintro x rfl
        refine iX7_sumOf_51 (iX7_sumOf_52 (iX7_sumOf_53 (iX7_sumOf_56 ?_)))
        exact ih (k + 1) (by omega)
      refine iX7_sumOf_12 (iX7_sumOf_13 (jX7_sumOf_14 hS (iX7_sumOf_17 (by omega) (by omega) (fun g => ?_) (fun g => ?_))))
      · omega
      refine iX7_sumOf_20 (iX7_sumOf_21 (iX7_sumOf_22 (iX7_sumOf_24 (by omega) (by omega) (fun g1 => ?_) (fun g1 => ?_))))
      rotate_left
      · refine iX7_sumOf_27 (jX7_sumOf_28 hS (iX7_sumOf_31 (jX7_sumOf_32 hS ⟨by omega, by omega⟩ (iX7_sumOf_33 ?_))))
        rw [Int.toNat_natCast, e1]
        exact fin _ (by unfold smF; rw [if_pos (by omega)])
      refine iX7_sumOf_36 (jX7_sumOf_37 hS (iX7_sumOf_40 (jX7_sumOf_41 hS ⟨by omega, by omega⟩ ?_)))
      rw [Int.toNat_natCast, e4]
      refine iX7_sumOf_42 (iX7_sumOf_43 (by omega) (by omega) (fun g2 => ?_) (fun g2 => ?_))
      · refine iX7_sumOf_50 ?_
        exact fin _ (by unfold smF; rw [if_neg (by omega), if_neg (by omega)])
      · refine iX7_sumOf_46 (iX7_sumOf_47 ?_)
        exact fin _ (by unfold smF; rw [if_neg (by omega), if_pos (by omega)])
  exact loop (nP V0) 0 (by omega)
noncomputable def cuZ (V : MVal) (w : Int) : Int := if w = 0 ∨ w = 1 ∨ w = 6 ∨ w = 7 then smQ V w else if w = 2 ∨ w = 3 then V 95 (w - 2).toNat else if w = 4 then V 94 9 else if w = 5 then V 94 23 else if w = 8 then V 94 32 else -2
theorem smQ_rng {V : MVal} (hI : MI V) (w : Int) : -96 ≤ smQ V w ∧ smQ V w ≤ 96 := by
  have := nP_le V
  have := nH_le V
  have := smF_rng hI (w := w) (Nat.le_refl (nP V))
  unfold smQ
  split
  · omega
  · split <;> omega
theorem cuZ_rng {V : MVal} (hI : MI V) {w : Int} (hw : 0 ≤ w ∧ w < 8) : -1000 ≤ cuZ V w ∧ cuZ V w ≤ 1000 := by
  have h1 := smQ_rng hI w
  have h2 := hI.t
  have h3 := hI.s
  have h4 := hI.f
  have h5 := hI.g
  unfold cuZ
  split
  · omega
  · split
    · rename_i h
      rcases h with rfl | rfl
      · have := h2.1; show -1000 ≤ V 95 0 ∧ V 95 0 ≤ 1000; omega
      · have := h2.2.1; show -1000 ≤ V 95 1 ∧ V 95 1 ≤ 1000; omega
    · split
      · omega
      · split
        · omega
        · split <;> omega
set_option maxHeartbeats 2000000 in
theorem sp_count {d : Nat} {M : MH} {V0 V : MVal} (hS : MS (msh M) (mrv M)) (hI : MI V0) (hP : PEq V0 V) {w : Int} (hw : inR w) : MVi mX7_count (d + 5) [vp 94, vi w] M V (fun z V' => z = cuZ V0 w ∧ PEq V0 V') := by
  refine mc_of (L := [vp 94, vi w]) (by decide +kernel) (Nat.le_of_ble_eq_true rfl) rfl ?_
  have sm : (w = 0 ∨ w = 1 ∨ w = 6 ∨ w = 7) → MW mX7_count (d + 5) 52 [vp 94, vi w] [] (sI M V) (Vi M (fun z V' => z = cuZ V0 w ∧ PEq V0 V')) := by
    intro c
    refine iX7_count_52 (iX7_count_53 ?_)
    refine jX7_count_54 hS (sp_sumOf hS hI hP (by omega)) ?_
    rintro z V1 ⟨rfl, h1⟩
    refine iX7_count_57 ?_
    exact ⟨V1, rfl, by unfold cuZ; rw [if_pos c], h1.1⟩
  have ty : (w = 2 ∨ w = 3) → MW mX7_count (d + 5) 58 [vp 94, vi w] [] (sI M V) (Vi M (fun z V' => z = cuZ V0 w ∧ PEq V0 V')) := by
    intro c
    refine iX7_count_58 (jX7_count_59 hS (iX7_count_62 (iX7_count_63 (iX7_count_64 (jX7_count_65 hS ⟨by omega, by omega⟩ (iX7_count_66 ?_))))))
    exact ⟨V, rfl, by unfold cuZ; rw [if_neg (by omega), if_pos c, hP.1 95 rfl], hP⟩
  refine iX7_count_0 ?_
  by_cases c : w < 0 ∨ 8 < w
  · refine iX7_count_1_D hw c ?_
    refine iX7_count_82 (iX7_count_84 ?_)
    exact ⟨V, rfl, by unfold cuZ; rw [if_neg (by omega), if_neg (by omega), if_neg (by omega), if_neg (by omega), if_neg (by omega)], hP⟩
  have h9 : w = 0 ∨ w = 1 ∨ w = 2 ∨ w = 3 ∨ w = 4 ∨ w = 5 ∨ w = 6 ∨ w = 7 ∨ w = 8 := by omega
  rcases h9 with rfl | rfl | rfl | rfl | rfl | rfl | rfl | rfl | rfl
  · exact iX7_count_1_0 (sm (by omega))
  · exact iX7_count_1_1 (sm (by omega))
  · exact iX7_count_1_2 (ty (by omega))
  · exact iX7_count_1_3 (ty (by omega))
  · refine iX7_count_1_4 ?_
    refine iX7_count_67 (jX7_count_68 hS (iX7_count_71 ?_))
    exact ⟨V, rfl, hP.2.1, hP⟩
  · refine iX7_count_1_5 ?_
    refine iX7_count_72 (jX7_count_73 hS (iX7_count_76 ?_))
    exact ⟨V, rfl, hP.2.2.1, hP⟩
  · exact iX7_count_1_6 (sm (by omega))
  · exact iX7_count_1_7 (sm (by omega))
  · refine iX7_count_1_8 ?_
    refine iX7_count_77 (jX7_count_78 hS (iX7_count_81 ?_))
    exact ⟨V, rfl, hP.2.2.2, hP⟩
/-! the digest -/
def dgL (f : Nat → Int) (h : Int) : Nat → Int
  | 0 => h
  | n + 1 => 31 * dgL f h n + f n
def dgS (st : Nat → Int → Int) (h : Int) : Nat → Int
  | 0 => h
  | n + 1 => st n (dgS st h n)
noncomputable def dgH (V : MVal) (k : Nat) (h : Int) : Int := dgL (fun p => vlF V k p) (31 * dgL (fun w => hsQ V k w) h 3 + (runS V (pl V)).1 k) (nP V)
/-- all but one -/
def allBut (V : MVal) (p : Nat) : Nat := bitsN (fun q => !(q == p)) (nP V)
noncomputable def dgP (V : MVal) (p : Nat) (h : Int) : Int := 31 * (31 * (31 * (31 * (31 * dgL (fun w => psQ V p w) h 3 + (runS V (pl V)).2.1 p) + (runS V (pl V)).2.2 p) + gnF V (runS V (pl V)) p) + ouF V p) + cmF V p (allBut V p)
noncomputable def dgZ (V : MVal) : Int := 31 * dgL (fun k => len V (pl V) k) (dgS (dgP V) (dgS (dgH V) (31 * (31 * dgL (fun w => cuZ V w) 17 8 + fH V) + fP V) (nH V)) (nP V)) (V 94 9).toNat + chN V
theorem hsQ_rng {V : MVal} {k : Nat} (hk : k < nH V) (w : Int) : -1000 ≤ hsQ V k w ∧ hsQ V k w ≤ 1000 := by
  have h1 := ow_rng hk
  have h2 := bitsN_lt (fun p => pl V p == (k : Int)) (nP V)
  have h3 : 2 ^ nP V ≤ 256 := Nat.pow_le_pow_right (n := 2) (by decide) (nP_le V)
  unfold hsQ
  split
  · omega
  · split <;> omega
theorem psQ_rng {V : MVal} {k : Nat} (hk : k < nP V) (w : Int) : -1000 ≤ psQ V k w ∧ psQ V k w ≤ 1000 := by
  have h1 := kd_rng V k
  have h4 := pl_rng hk
  have h5 := nH_le V
  have h2 := bitsN_lt (fun h => ow V h == (k : Int)) (nH V)
  have h3 : 2 ^ nH V ≤ 256 := Nat.pow_le_pow_right (n := 2) (by decide) (nH_le V)
  unfold psQ
  split
  · omega
  · split <;> omega
theorem ouF_rng {V : MVal} {p : Nat} (hp : p < nP V) : -1 ≤ ouF V p ∧ ouF V p ≤ 8 := by
  have h1 := pl_rng hp
  unfold ouF
  by_cases c : pl V p = -1 ∨ ¬ tldS V (pl V p)
  · rw [cif_t c]; omega
  · rw [cif_f c]
    have := ouL_rng (V := V) (a := pl V p) (by omega) (by omega) (nH V)
    split <;> omega
theorem chN_rng (V : MVal) : -100 ≤ chN V ∧ chN V ≤ 100 := by
  have h8 := nH_le V
  have h1 : ∀ a, a < nH V → -8 ≤ sumN (fun b => bz (chP V a b)) a ∧ sumN (fun b => bz (chP V a b)) a ≤ 8 := fun a ha => by
    have := sumN_rng (f := fun b => bz (chP V a b)) (B := 1) (by decide) (n := a) (fun i hi => by
      have := bz01 (p := chP V a i)
      show -1 ≤ bz (chP V a i) ∧ bz (chP V a i) ≤ 1
      omega)
    omega
  have := sumN_rng (f := fun a => sumN (fun b => bz (chP V a b)) a) (B := 8) (by decide) (n := nH V) h1
  unfold chN
  omega
theorem len_rng {V : MVal} (k : Nat) : 0 ≤ len V (pl V) k ∧ len V (pl V) k ≤ 8 := by
  have h8 := nH_le V
  unfold len slL
  split
  · have := cntC_le (clo (eN V (pl V)) (run V (pl V) k) (V 102 k).toNat (V 103 k).toNat) (nH V)
    show 0 ≤ ((cntC _ (nH V) : Nat) : Int) ∧ ((cntC _ (nH V) : Nat) : Int) ≤ 8
    omega
  · omega
theorem allBut_lt (V : MVal) (p : Nat) : allBut V p < 256 := Nat.lt_of_lt_of_le (bitsN_lt _ _) (Nat.pow_le_pow_right (n := 2) (by decide) (nP_le V))
theorem allBut_e : ∀ n : Nat, n ≤ 8 → ∀ p : Nat, p < n → band (bshl 1 (n : Int) - 1) (bxor (bshl 1 (p : Int)) (-1)) = (bitsN (fun q => !(q == p)) n : Int) := by
  decide +kernel
