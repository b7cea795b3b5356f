/-! the model: gains, rows of places, the best -/
def sumN (f : Nat → Int) : Nat → Int
  | 0 => 0
  | n + 1 => sumN f n + f n
theorem sumN_rng {f : Nat → Int} {B : Int} (hB : 0 ≤ B) : ∀ {n : Nat}, (∀ i, i < n → -B ≤ f i ∧ f i ≤ B) → -(B * n) ≤ sumN f n ∧ sumN f n ≤ B * n
  | 0, _ => by simp [sumN]
  | n + 1, h => by
    have h1 := sumN_rng hB (n := n) (fun i hi => h i (by omega))
    have h2 := h n (by omega)
    have e : B * ((n + 1 : Nat) : Int) = B * (n : Int) + B := by rw [Int.natCast_add, Int.mul_add]; simp
    show -(B * ((n + 1 : Nat) : Int)) ≤ sumN f n + f n ∧ sumN f n + f n ≤ B * ((n + 1 : Nat) : Int)
    rw [e]
    omega
theorem sumN_b {f : Nat → Int} {n : Nat} (hn : n ≤ 8) (h : ∀ i, i < n → -9 ≤ f i ∧ f i ≤ 9) : -72 ≤ sumN f n ∧ sumN f n ≤ 72 := by
  have := sumN_rng (B := 9) (by decide) h
  omega
theorem sumN_ext {f g : Nat → Int} : ∀ {n : Nat}, (∀ i, i < n → f i = g i) → sumN f n = sumN g n
  | 0, _ => rfl
  | n + 1, h => by
    show sumN f n + f n = sumN g n + g n
    rw [sumN_ext (fun i hi => h i (by omega)), h n (by omega)]
def gnP (V : MVal) (N : NN) (p q : Nat) : Int := if q ≠ p ∧ N.2.1 q = (p : Int) then V 109 (8 * p + q) else 0
def gnH (V : MVal) (N : NN) (p h : Nat) : Int := if N.1 h = (p : Int) then pr V h else 0
def gnF (V : MVal) (N : NN) (p : Nat) : Int := sumN (gnP V N p) (nP V) + sumN (gnH V N p) (nH V)
theorem gnP_rng {V : MVal} (hI : MI V) (N : NN) {p : Nat} (hp : p < 8) {n : Nat} (hn : n ≤ 8) : -72 ≤ sumN (gnP V N p) n ∧ sumN (gnP V N p) n ≤ 72 := by
  refine sumN_b hn (fun i hi => ?_)
  unfold gnP
  have := (hI.w (8 * p + i) (by omega)).1
  split <;> omega
theorem gnH_rng {V : MVal} (N : NN) {p : Nat} {n : Nat} (hn : n ≤ nH V) : -72 ≤ sumN (gnH V N p) n ∧ sumN (gnH V N p) n ≤ 72 := by
  have := nH_le V
  refine sumN_b (by omega) (fun i hi => ?_)
  unfold gnH
  have := (ow_rng (V := V) (k := i) (by omega)).2
  split <;> omega
theorem gnF_rng {V : MVal} (hI : MI V) (N : NN) {p : Nat} (hp : p < 8) : -144 ≤ gnF V N p ∧ gnF V N p ≤ 144 := by
  have h1 := gnP_rng hI N hp (nP_le V)
  have h2 := gnH_rng (V := V) N (p := p) (Nat.le_refl _)
  unfold gnF
  omega
set_option maxHeartbeats 4000000 in
theorem sp_gainBy {d : Nat} {M : MH} {V0 V : MVal} {wh : Nat → Int} {N : NN} {m : Int} (hS : MS (msh M) (mrv M)) (hI : MI V0) (hR : RSt V0 V) (hN : NSt (eN V0 wh) N V) (hNR : NR (eN V0 wh) m N) {p : Nat} (hp : p < 8) : MVi mX7_gainBy d [vp 94, vi p] M V (fun z V' => z = gnF V0 N p ∧ V = V') := by
  refine mc_of (L := [vp 94, vi p, vu, vu]) (by decide +kernel) (Nat.le_of_ble_eq_true rfl) rfl ?_
  have n8 := nP_le V0
  have h8 := nH_le V0
  have e2 := hR.2.1
  have e5 := hR.2.2.1
  have hl : ∀ f k : Nat, k + f = nH V0 → MW mX7_gainBy d 53 [vp 94, vi p, vi (sumN (gnP V0 N p) (nP V0) + sumN (gnH V0 N p) k), vi k] [] (sI M V) (Vi M (fun z V' => z = gnF V0 N p ∧ V = V')) := by
    intro f
    induction f with
    | zero =>
      intro k h1
      have : k = nH V0 := by omega
      subst this
      refine iX7_gainBy_53 (iX7_gainBy_54 (jX7_gainBy_55 hS (iX7_gainBy_58 (by omega) (by omega) (fun g => ?_) (fun g => ?_))))
      · refine iX7_gainBy_90 (iX7_gainBy_91 ?_)
        exact ⟨V, rfl, rfl, rfl⟩
      · omega
    | succ f ih =>
      intro k h1
      have ek : ((k : Int)).toNat = k := by omega
      have eo : V 105 k = N.1 k := hN.2.2.2.2.1 k (by show k < nH V0; omega)
      have ro : 0 ≤ N.1 k ∧ N.1 k ≤ 7 := hNR.2.2.2.2.1 k (by show k < nH V0; omega)
      have ep := (hR.2.2.2.1 k (by omega)).2
      refine iX7_gainBy_53 (iX7_gainBy_54 (jX7_gainBy_55 hS (iX7_gainBy_58 (by omega) (by omega) (fun g => ?_) (fun g => ?_))))
      · omega
      refine iX7_gainBy_61 (iX7_gainBy_62 (jX7_gainBy_63 hS (iX7_gainBy_66 (jX7_gainBy_67 hS ⟨by omega, by omega⟩ ?_))))
      rw [ek, eo]
      have fin : ∀ x : Int, x = gnH V0 N p k → MW mX7_gainBy d 82 [vp 94, vi p, vi (sumN (gnP V0 N p) (nP V0) + sumN (gnH V0 N p) k), vi k] [vi x, vi (sumN (gnP V0 N p) (nP V0) + sumN (gnH V0 N p) k)] (sI M V) (Vi M (fun z V' => z = gnF V0 N p ∧ V = V')) := by
        intro x hx
        refine iX7_gainBy_82 (iX7_gainBy_83 (iX7_gainBy_84 (iX7_gainBy_87 ?_)))
        rw [hx, Int.add_assoc]
        exact ih (k + 1) (by omega)
      refine iX7_gainBy_68 (iX7_gainBy_69 (by omega) (by omega) (fun g1 => ?_) (fun g1 => ?_))
      · refine iX7_gainBy_81 ?_
        exact fin _ (by unfold gnH; rw [if_neg g1])
      · refine iX7_gainBy_72 (jX7_gainBy_73 hS (iX7_gainBy_76 (jX7_gainBy_77 hS ⟨by omega, by omega⟩ (iX7_gainBy_78 ?_))))
        rw [ek, ep]
        exact fin _ (by unfold gnH; rw [if_pos (by omega)])
  have pl : ∀ f k : Nat, k + f = nP V0 → MW mX7_gainBy d 4 [vp 94, vi p, vi (sumN (gnP V0 N p) k), vi k] [] (sI M V) (Vi M (fun z V' => z = gnF V0 N p ∧ V = V')) := by
    intro f
    induction f with
    | zero =>
      intro k h1
      have : k = nP V0 := by omega
      subst this
      refine iX7_gainBy_4 (iX7_gainBy_5 (jX7_gainBy_6 hS (iX7_gainBy_9 (by omega) (by omega) (fun g => ?_) (fun g => ?_))))
      · refine iX7_gainBy_51 (iX7_gainBy_52 ?_)
        have := hl (nH V0) 0 (by omega)
        rw [show sumN (gnP V0 N p) (nP V0) + sumN (gnH V0 N p) 0 = sumN (gnP V0 N p) (nP V0) from Int.add_zero _] at this
        exact this
      · omega
    | succ f ih =>
      intro k h1
      have ek : ((k : Int)).toNat = k := by omega
      have eo : V 106 k = N.2.1 k := (hN.2.2.2.2.2 k (by show k < nP V0; omega)).1
      have ro : 0 ≤ N.2.1 k ∧ N.2.1 k < (nP V0 : Int) := (hNR.2.2.2.2.2 k (by show k < nP V0; omega)).1
      have t1 : (8 * (p : Int) + (k : Int)).toNat = 8 * p + k := by omega
      refine iX7_gainBy_4 (iX7_gainBy_5 (jX7_gainBy_6 hS (iX7_gainBy_9 (by omega) (by omega) (fun g => ?_) (fun g => ?_))))
      · omega
      have fin : ∀ x : Int, x = gnP V0 N p k → MW mX7_gainBy d 43 [vp 94, vi p, vi (sumN (gnP V0 N p) k), vi k] [vi x, vi (sumN (gnP V0 N p) k)] (sI M V) (Vi M (fun z V' => z = gnF V0 N p ∧ V = V')) := by
        intro x hx
        refine iX7_gainBy_43 (iX7_gainBy_44 (iX7_gainBy_45 (iX7_gainBy_48 ?_)))
        rw [hx]
        exact ih (k + 1) (by omega)
      refine iX7_gainBy_12 (iX7_gainBy_13 (iX7_gainBy_14 (iX7_gainBy_15 (by omega) (by omega) (fun g1 => ?_) (fun g1 => ?_))))
      · refine iX7_gainBy_42 ?_
        exact fin _ (by unfold gnP; rw [if_neg (by omega)])
      refine iX7_gainBy_18 (jX7_gainBy_19 hS (iX7_gainBy_22 (jX7_gainBy_23 hS ⟨by omega, by omega⟩ ?_)))
      rw [ek, eo]
      refine iX7_gainBy_24 (iX7_gainBy_25 (by omega) (by omega) (fun g2 => ?_) (fun g2 => ?_))
      · refine iX7_gainBy_42 ?_
        exact fin _ (by unfold gnP; rw [if_neg (by omega)])
      · refine iX7_gainBy_28 (jX7_gainBy_29 hS (iX7_gainBy_32 (iX7_gainBy_34 (iX7_gainBy_35 (iX7_gainBy_36 (iX7_gainBy_37 (jX7_gainBy_38 hS ⟨by omega, by omega⟩ (iX7_gainBy_39 ?_))))))))
        rw [t1, hR.1.1 109 rfl]
        exact fin _ (by unfold gnP; rw [if_pos (by omega)])
  refine iX7_gainBy_0 (iX7_gainBy_1 (iX7_gainBy_2 (iX7_gainBy_3 ?_)))
  exact pl (nP V0) 0 (by omega)
/-- all sales run, as all are placed -/
noncomputable def runS (V : MVal) (wh : Nat → Int) : NN := run V wh (V 94 9).toNat
theorem runS_NR {V : MVal} {wh : Nat → Int} (hI : MI V) (hw : WR V wh) : NR (eN V wh) 12 (runS V wh) := by
  have := hI.s
  exact (run_NR hI hw _ (by omega)).m (by omega)
theorem sp_gainOf {d : Nat} {M : MH} {V0 V : MVal} (hS : MS (msh M) (mrv M)) (hI : MI V0) (hP : PEq V0 V) {p : Nat} (hp : p < 8) : MVi mX7_gainOf (d + 4) [vp 94, vi p] M V (fun z V' => z = gnF V0 (runS V0 (pl V0)) p ∧ RSt V0 V') := by
  refine mc_of (L := [vp 94, vi p]) (by decide +kernel) (Nat.le_of_ble_eq_true rfl) rfl ?_
  have hs := hI.s
  refine iX7_gainOf_0 (iX7_gainOf_1 (jX7_gainOf_2 hS ?_))
  rw [hP.2.1]
  refine jX7_gainOf_5 hS (sp_lays hS hI hP hs) ?_
  intro V1 h1
  refine iX7_gainOf_8 (iX7_gainOf_9 ?_)
  refine jX7_gainOf_10 hS (sp_gainBy hS hI h1.1 h1.2.1 (runS_NR hI (WR.pl V0)) hp) ?_
  rintro z V2 ⟨rfl, rfl⟩
  refine iX7_gainOf_13 ?_
  exact ⟨V1, rfl, rfl, h1.1⟩
noncomputable def gnZ (V : MVal) (p : Int) : Int := if 0 ≤ p ∧ p < nP V then gnF V (runS V (pl V)) p.toNat else -100002
theorem sp_gain {d : Nat} {M : MH} {V0 V : MVal} (hS : MS (msh M) (mrv M)) (hI : MI V0) (hP : PEq V0 V) {p : Int} (hp : inR p) : MVi mX7_gain (d + 5) [vp 94, vi p] M V (fun z V' => z = gnZ V0 p ∧ PEq V0 V') := by
  refine mc_of (L := [vp 94, vi p]) (by decide +kernel) (Nat.le_of_ble_eq_true rfl) rfl ?_
  have n8 := nP_le V0
  refine iX7_gain_0 (iX7_gain_1 ?_)
  refine jX7_gain_2 hS (sp_isPerson hS hI.t hP hp) ?_
  rintro z V1 ⟨rfl, hR⟩
  refine iX7_gain_5 bzR (fun h0 => have g1 := bz_eq h0; ?_) (fun h0 => have g1 := bz_ne h0; ?_)
  · refine iX7_gain_16 (iX7_gain_18 ?_)
    exact ⟨V1, rfl, by unfold gnZ; rw [if_neg g1], hR.1⟩
  · obtain ⟨p, rfl⟩ := Int.eq_ofNat_of_zero_le g1.1
    refine iX7_gain_8 (iX7_gain_9 ?_)
    refine jX7_gain_10 hS (sp_gainOf hS hI hR.1 (by omega)) ?_
    rintro z V2 ⟨rfl, h2⟩
    refine iX7_gain_13 (iX7_gain_18 ?_)
    exact ⟨V2, rfl, by unfold gnZ; rw [if_pos g1, Int.toNat_natCast], h2.1⟩
/-! rows -/
def rwN (V : MVal) : Nat := (nH V + 1) ^ nP V
theorem pow9 : ∀ {h p : Nat}, h ≤ 9 → p ≤ 4 → h ^ p ≤ 6561 := by
  intro h p h1 h2
  exact Nat.le_trans (Nat.pow_le_pow_left h1 p) (Nat.pow_le_pow_right (n := 9) (by decide) h2)
theorem rwN_le {V : MVal} (h : nP V ≤ 4) : rwN V ≤ 6561 := pow9 (by have := nH_le V; omega) h
theorem rwN_pos (V : MVal) : 0 < rwN V := Nat.pow_pos (by omega)
theorem sp_rows {d : Nat} {M : MH} {V0 V : MVal} (hS : MS (msh M) (mrv M)) (hR : RSt V0 V) (h4 : nP V0 ≤ 4) : MVi mX7_rows d [vp 94] M V (fun z V' => z = rwN V0 ∧ V = V') := by
  refine mc_of (L := [vp 94, vu, vu]) (by decide +kernel) (Nat.le_of_ble_eq_true rfl) rfl ?_
  have h8 := nH_le V0
  have e2 := hR.2.1
  have e5 := hR.2.2.1
  have loop : ∀ f k : Nat, k + f = nP V0 → MW mX7_rows d 4 [vp 94, vi (((nH V0 + 1) ^ k : Nat) : Int), vi k] [] (sI M V) (Vi M (fun z V' => z = rwN V0 ∧ V = V')) := by
    intro f
    induction f with
    | zero =>
      intro k h1
      have : k = nP V0 := by omega
      subst this
      refine iX7_rows_4 (iX7_rows_5 (jX7_rows_6 hS (iX7_rows_9 (by omega) (by omega) (fun g => ?_) (fun g => ?_))))
      · refine iX7_rows_27 (iX7_rows_28 ?_)
        exact ⟨V, rfl, rfl, rfl⟩
      · omega
    | succ f ih =>
      intro k h1
      refine iX7_rows_4 (iX7_rows_5 (jX7_rows_6 hS (iX7_rows_9 (by omega) (by omega) (fun g => ?_) (fun g => ?_))))
      · omega
      · refine iX7_rows_12 (iX7_rows_13 (jX7_rows_14 hS (iX7_rows_17 (iX7_rows_18 (iX7_rows_19 (iX7_rows_20 (iX7_rows_21 (iX7_rows_24 ?_))))))))
        rw [e2, show (((nH V0 + 1) ^ k : Nat) : Int) * ((nH V0 : Int) + 1) = (((nH V0 + 1) ^ (k + 1) : Nat) : Int) by rw [Nat.pow_succ, Int.natCast_mul]; rfl]
        exact ih (k + 1) (by omega)
  refine iX7_rows_0 (iX7_rows_1 (iX7_rows_2 (iX7_rows_3 ?_)))
  exact loop (nP V0) 0 (by omega)
/-- where the row r puts p -/
def plc (V : MVal) (r p : Nat) : Int := ((r / (nH V + 1) ^ (nP V - 1 - p) % (nH V + 1) : Nat) : Int) - 1
theorem plc_rng (V : MVal) (r p : Nat) : -1 ≤ plc V r p ∧ plc V r p < nH V := by
  have := Nat.mod_lt (r / (nH V + 1) ^ (nP V - 1 - p)) (show 0 < nH V + 1 by omega)
  unfold plc
  omega
theorem WR.plc (V : MVal) (r : Nat) : WR V (plc V r) := fun p _ => by
  have := plc_rng V r p
  have := nH_le V
  omega
/-- nothing but the places has moved -/
def FrP (V V' : MVal) : Prop := ∀ q, q ≠ 104 → V' q = V q
theorem RSt.frP {V0 V V' : MVal} (h : RSt V0 V) (g : FrP V V') : RSt V0 V' := by
  obtain ⟨⟨a1, a2, a3, a4⟩, b, c, e, f⟩ := h
  refine ⟨⟨fun q hq => ?_, ?_, ?_, ?_⟩, ?_, ?_, ?_, ?_⟩
  · rw [g q (fun e => by rw [e] at hq; cases hq)]
    exact a1 q hq
  · rw [g 94 (by decide)]; exact a2
  · rw [g 94 (by decide)]; exact a3
  · rw [g 94 (by decide)]; exact a4
  · rw [g 94 (by decide)]; exact b
  · rw [g 94 (by decide)]; exact c
  · rw [g 97 (by decide), g 98 (by decide)]; exact e
  · rw [g 99 (by decide), g 100 (by decide)]; exact f
set_option maxHeartbeats 2000000 in
theorem sp_places {d : Nat} {M : MH} {V0 V : MVal} (hS : MS (msh M) (mrv M)) (hR : RSt V0 V) {r : Nat} (hr : r < 1000000) : MVv mX7_places d [vp 94, vi r] M V (fun V' => FrP V V' ∧ ∀ p, p < nP V0 → V' 104 p = plc V0 r p) := by
  refine mc_of (L := [vp 94, vi r, vu, vu]) (by decide +kernel) (Nat.le_of_ble_eq_true rfl) rfl ?_
  have n8 := nP_le V0
  have h8 := nH_le V0
  have e5 := hR.2.2.1
  have loop : ∀ f k : Nat, ∀ W : MVal, k + f = nP V0 → FrP V W → (∀ p, p < nP V0 → nP V0 ≤ p + k → W 104 p = plc V0 r p) → MW mX7_places d 9 [vp 94, vi r, vi ((r / (nH V0 + 1) ^ k : Nat) : Int), vi ((f : Int) - 1)] [] (sI M W) (Vv M (fun V' => FrP V V' ∧ ∀ p, p < nP V0 → V' 104 p = plc V0 r p)) := by
    intro f
    induction f with
    | zero =>
      intro k W h1 h2 h3
      refine iX7_places_9 (iX7_places_10 (by omega) (fun g => ?_) (fun g => ?_))
      · refine iX7_places_44 ?_
        exact ⟨W, rfl, h2, fun p hp => h3 p hp (by omega)⟩
      · omega
    | succ f ih =>
      intro k W h1 h2 h3
      have e2 := (hR.frP h2).2.1
      have e2b : ∀ x, u2 W 104 f x 94 2 = (nH V0 : Int) := fun x => by rw [u2_rd (by decide)]; exact e2
      have dl : r / (nH V0 + 1) ^ k ≤ r := Nat.div_le_self _ _
      generalize hx : r / (nH V0 + 1) ^ k = x at dl
      have ef : (((f + 1 : Nat) : Int) - 1).toNat = f := by omega
      refine iX7_places_9 (iX7_places_10 (by omega) (fun g => ?_) (fun g => ?_))
      · omega
      refine iX7_places_13 (jX7_places_14 hS (iX7_places_17 (iX7_places_18 (iX7_places_19 (jX7_places_20 hS (iX7_places_23 (iX7_places_24 ?_)))))))
      rw [e2]
      refine iX7_places_25 (by omega) (by omega) (iX7_places_26 (iX7_places_27 (jX7_places_28 hS ⟨by omega, by omega⟩ (iX7_places_29 (iX7_places_30 (jX7_places_31 hS ?_))))))
      rw [ef, e2b]
      refine iX7_places_34 (iX7_places_35 (iX7_places_36 (by omega) (by omega) (iX7_places_37 (iX7_places_38 (iX7_places_41 ?_)))))
      rw [show (x : Int) / ((nH V0 : Int) + 1) = ((r / (nH V0 + 1) ^ (k + 1) : Nat) : Int) by
        rw [Nat.pow_succ, ← Nat.div_div_eq_div_mul, hx]; rfl]
      rw [show ((f + 1 : Nat) : Int) - 1 + -1 = (f : Int) - 1 by omega]
      refine ih (k + 1) _ (by omega) (fun q hq => by rw [u2_ne hq]; exact h2 q hq) (fun p hp h4 => ?_)
      by_cases e : p = f
      · subst e
        rw [u2_at]
        unfold plc
        rw [show nP V0 - 1 - p = k by omega, hx]
        rfl
      · rw [u2_off e]; exact h3 p hp (by omega)
  refine iX7_places_0 (iX7_places_1 (iX7_places_2 (jX7_places_3 hS (iX7_places_6 (iX7_places_7 (iX7_places_8 ?_))))))
  rw [e5]
  have := loop (nP V0) 0 V (by omega) (fun _ _ => rfl) (fun p h1 h2 => by omega)
  rw [Nat.pow_zero, Nat.div_one] at this
  exact this
/-! the best row -/
noncomputable def bsF (V : MVal) (p : Nat) : Nat → Int × Int
  | 0 => (-1, 0)
  | k + 1 => if (bsF V p k).1 = -1 ∨ (bsF V p k).2 < gnF V (runS V (plc V k)) p then ((k : Int), gnF V (runS V (plc V k)) p) else bsF V p k
theorem bsF_rng {V : MVal} (hI : MI V) {p : Nat} (hp : p < 8) : ∀ k, (-1 ≤ (bsF V p k).1 ∧ (bsF V p k).1 < k ∧ (0 < k → 0 ≤ (bsF V p k).1)) ∧ -144 ≤ (bsF V p k).2 ∧ (bsF V p k).2 ≤ 144
  | 0 => by simp [bsF]
  | k + 1 => by
    have h1 := bsF_rng hI hp k
    have h2 := gnF_rng hI (runS V (plc V k)) hp
    unfold bsF
    split
    · simp only []; omega
    · omega
noncomputable def bsZ (V : MVal) (p w : Int) : Int := if (0 ≤ p ∧ p < nP V) ∧ (w = -1 ∨ 0 ≤ w ∧ w < nP V) then (if 4 < nP V then -100004 else if w = -1 then (bsF V p.toNat (rwN V)).2 else plc V (bsF V p.toNat (rwN V)).1.toNat w.toNat) else -100002
set_option maxHeartbeats 4000000 in
theorem sp_bestOf {d : Nat} {M : MH} {V0 V : MVal} (hS : MS (msh M) (mrv M)) (hI : MI V0) (hR : RSt V0 V) {p : Nat} (hp : p < nP V0) {w : Int} (hw : w = -1 ∨ 0 ≤ w ∧ w < nP V0) : MVi mX7_bestOf (d + 3) [vp 94, vi p, vi w] M V (fun z V' => z = bsZ V0 p w ∧ RSt V0 V') := by
  refine mc_of (L := [vp 94, vi p, vi w, vu, vu, vu, vu, vu, vu]) (by decide +kernel) (Nat.le_of_ble_eq_true rfl) rfl ?_
  have n8 := nP_le V0
  have h8 := nH_le V0
  have e5 := hR.2.2.1
  have hs := hI.s
  have c0 : (0 ≤ (p : Int) ∧ (p : Int) < nP V0) ∧ (w = -1 ∨ 0 ≤ w ∧ w < nP V0) := ⟨by omega, hw⟩
  unfold bsZ
  rw [if_pos c0, Int.toNat_natCast]
  refine iX7_bestOf_0 (jX7_bestOf_1 hS (iX7_bestOf_4 (iX7_bestOf_5 (by omega) (by omega) (fun g => ?_) (fun g => ?_))))
  rotate_left
  · refine iX7_bestOf_8 (iX7_bestOf_10 ?_)
    exact ⟨V, rfl, by rw [if_pos (by omega)], hR⟩
  rw [if_neg (by omega)]
  have h4 : nP V0 ≤ 4 := by omega
  have hrw := rwN_le h4
  have hrp := rwN_pos V0
  refine iX7_bestOf_11 (iX7_bestOf_12 (iX7_bestOf_13 (iX7_bestOf_14 (iX7_bestOf_16 ?_))))
  refine jX7_bestOf_17 hS (sp_rows hS hR h4) ?_
  rintro z V1 ⟨rfl, rfl⟩
  refine iX7_bestOf_20 (iX7_bestOf_22 (iX7_bestOf_23 ?_))
  have loop : ∀ f k : Nat, ∀ (W : MVal) (m7 m8 : MV), k + f = rwN V0 → RSt V0 W → MW mX7_bestOf (d + 3) 25 [vp 94, vi p, vi w, vi (bsF V0 p k).1, vi (bsF V0 p k).2, vi (rwN V0), vi k, m7, m8] [] (sI M W) (Vi M (fun z V' => z = (if w = -1 then (bsF V0 p (rwN V0)).2 else plc V0 (bsF V0 p (rwN V0)).1.toNat w.toNat) ∧ RSt V0 V')) := by
    intro f
    induction f with
    | zero =>
      intro k W m7 m8 h1 h2
      have : k = rwN V0 := by omega
      subst this
      have hb := bsF_rng hI (p := p) (by omega) (rwN V0)
      obtain ⟨r, hr⟩ := Int.eq_ofNat_of_zero_le (hb.1.2.2 hrp)
      refine iX7_bestOf_25 (iX7_bestOf_27 (iX7_bestOf_29 (by omega) (by omega) (fun g => ?_) (fun g => ?_)))
      rotate_left
      · omega
      rw [hr, Int.toNat_natCast]
      refine iX7_bestOf_104 (iX7_bestOf_105 ?_)
      refine jX7_bestOf_106 hS (sp_places hS h2 (r := r) (by omega)) ?_
      rintro W2 ⟨a1, a2⟩
      refine iX7_bestOf_109 (iX7_bestOf_110 (iX7_bestOf_111 (by omega) (by omega) (fun g2 => ?_) (fun g2 => ?_)))
      · refine iX7_bestOf_119 (jX7_bestOf_120 hS (iX7_bestOf_123 (jX7_bestOf_124 hS ⟨by omega, by omega⟩ (iX7_bestOf_125 ?_))))
        exact ⟨W2, rfl, by rw [if_neg g2]; exact a2 _ (by omega), h2.frP a1⟩
      · refine iX7_bestOf_114 (iX7_bestOf_116 (iX7_bestOf_125 ?_))
        exact ⟨W2, rfl, by rw [if_pos (by omega)], h2.frP a1⟩
    | succ f ih =>
      intro k W m7 m8 h1 h2
      have hb := bsF_rng hI (p := p) (by omega) k
      have hg := gnF_rng hI (runS V0 (plc V0 k)) (p := p) (by omega)
      refine iX7_bestOf_25 (iX7_bestOf_27 (iX7_bestOf_29 (by omega) (by omega) (fun g => ?_) (fun g => ?_)))
      · omega
      refine iX7_bestOf_32 (iX7_bestOf_33 ?_)
      refine jX7_bestOf_35 hS (sp_places hS h2 (r := k) (by omega)) ?_
      rintro W2 ⟨a1, a2⟩
      have h3 := h2.frP a1
      refine iX7_bestOf_38 (iX7_bestOf_39 (jX7_bestOf_40 hS ?_))
      rw [h3.1.2.1]
      refine jX7_bestOf_43 hS (sp_runs hS hI h3 (WR.plc V0 k) a2 hs) ?_
      rintro W3 ⟨-, b2⟩
      refine iX7_bestOf_46 (iX7_bestOf_47 ?_)
      refine jX7_bestOf_48 hS (sp_gainBy hS hI b2.1 b2.2.1 (runS_NR hI (WR.plc V0 k)) (p := p) (by omega)) ?_
      rintro z W4 ⟨rfl, rfl⟩
      change MW mX7_bestOf (d + 3) 51 [vp 94, vi p, vi w, vi (bsF V0 p k).1, vi (bsF V0 p k).2, vi (rwN V0), vi k, m7, m8] [vi (gnF V0 (runS V0 (plc V0 k)) p)] (sI M W3) _
      generalize hgg : gnF V0 (runS V0 (plc V0 k)) p = gg at hg
      have fin : ∀ z : Int, z = bz ((bsF V0 p k).1 = -1 ∨ (bsF V0 p k).2 < gg) → MW mX7_bestOf (d + 3) 70 [vp 94, vi p, vi w, vi (bsF V0 p k).1, vi (bsF V0 p k).2, vi (rwN V0), vi k, vi gg, m8] [vi z] (sI M W3) (Vi M (fun z V' => z = (if w = -1 then (bsF V0 p (rwN V0)).2 else plc V0 (bsF V0 p (rwN V0)).1.toNat w.toNat) ∧ RSt V0 V')) := by
        rintro z rfl
        have key := ih (k + 1) W3 (vi gg) (vi (bz ((bsF V0 p k).1 = -1 ∨ (bsF V0 p k).2 < gg))) (by omega) b2.1
        have es : bsF V0 p (k + 1) = if (bsF V0 p k).1 = -1 ∨ (bsF V0 p k).2 < gg then ((k : Int), gg) else bsF V0 p k := by rw [← hgg]; rfl
        rw [es] at key
        refine iX7_bestOf_70 (iX7_bestOf_72 ?_)
        refine iX7_bestOf_74 bzR (fun h0 => have g3 := bz_eq h0; ?_) (fun h0 => have g3 := bz_ne h0; ?_)
        · rw [if_neg g3] at key
          refine iX7_bestOf_82 (iX7_bestOf_83 (iX7_bestOf_84 ?_))
          refine iX7_bestOf_86 bzR (fun h0 => have g4 := bz_eq h0; ?_) (fun h0 => have g4 := bz_ne h0; ?_)
          · refine iX7_bestOf_94 (iX7_bestOf_96 (iX7_bestOf_98 (iX7_bestOf_101 ?_)))
            exact key
          · exact absurd g4 g3
        · rw [if_pos g3] at key
          refine iX7_bestOf_77 (iX7_bestOf_79 (iX7_bestOf_83 (iX7_bestOf_84 ?_)))
          refine iX7_bestOf_86 bzR (fun h0 => have g4 := bz_eq h0; ?_) (fun h0 => have g4 := bz_ne h0; ?_)
          · exact absurd g3 g4
          · refine iX7_bestOf_89 (iX7_bestOf_91 (iX7_bestOf_96 (iX7_bestOf_98 (iX7_bestOf_101 ?_))))
            exact key
      refine iX7_bestOf_51 (iX7_bestOf_53 (iX7_bestOf_54 (iX7_bestOf_55 (by omega) (by omega) (fun g5 => ?_) (fun g5 => ?_))))
      · refine iX7_bestOf_65 (iX7_bestOf_66 ?_)
        exact fin 1 (bz_t (Or.inl g5)).symm
      refine iX7_bestOf_58 (iX7_bestOf_60 (iX7_bestOf_62 (by omega) (by omega) (fun g6 => ?_) (fun g6 => ?_)))
      · refine iX7_bestOf_69 ?_
        exact fin 0 (bz_f (by omega)).symm
      · refine iX7_bestOf_65 (iX7_bestOf_66 ?_)
        exact fin 1 (bz_t (by omega)).symm
  exact loop (rwN V0) 0 V _ _ (by omega) hR
theorem sp_best {d : Nat} {M : MH} {V0 V : MVal} (hS : MS (msh M) (mrv M)) (hI : MI V0) (hP : PEq V0 V) {p w : Int} (hp : inR p) (hw : inR w) : MVi mX7_best (d + 4) [vp 94, vi p, vi w] M V (fun z V' => z = bsZ V0 p w ∧ PEq V0 V') := by
  refine mc_of (L := [vp 94, vi p, vi w]) (by decide +kernel) (Nat.le_of_ble_eq_true rfl) rfl ?_
  have no : ∀ V1, PEq V0 V1 → ¬ ((0 ≤ p ∧ p < nP V0) ∧ (w = -1 ∨ 0 ≤ w ∧ w < nP V0)) → MW mX7_best (d + 4) 30 [vp 94, vi p, vi w] [] (sI M V1) (Vi M (fun z V' => z = bsZ V0 p w ∧ PEq V0 V')) := by
    intro V1 h1 h2
    refine iX7_best_30 (iX7_best_32 ?_)
    exact ⟨V1, rfl, by unfold bsZ; rw [if_neg h2], h1⟩
  have yes : ∀ V1, RSt V0 V1 → (0 ≤ p ∧ p < nP V0) → (w = -1 ∨ 0 ≤ w ∧ w < nP V0) → MW mX7_best (d + 4) 21 [vp 94, vi p, vi w] [] (sI M V1) (Vi M (fun z V' => z = bsZ V0 p w ∧ PEq V0 V')) := by
    intro V1 h1 h2 h3
    obtain ⟨p, rfl⟩ := Int.eq_ofNat_of_zero_le h2.1
    refine iX7_best_21 (iX7_best_22 (iX7_best_23 ?_))
    refine jX7_best_24 hS (sp_bestOf hS hI h1 (p := p) (by omega) h3) ?_
    rintro z V2 ⟨rfl, h4⟩
    refine iX7_best_27 (iX7_best_32 ?_)
    exact ⟨V2, rfl, rfl, h4.1⟩
  refine iX7_best_0 (iX7_best_1 ?_)
  refine jX7_best_2 hS (sp_isPerson hS hI.t hP hp) ?_
  rintro z V1 ⟨rfl, hR⟩
  refine iX7_best_5 bzR (fun h0 => have g1 := bz_eq h0; ?_) (fun h0 => have g1 := bz_ne h0; ?_)
  · exact no V1 hR.1 (fun z => g1 z.1)
  refine iX7_best_8 (iX7_best_9 (iX7_best_10 (by omega) (by omega) (fun g2 => ?_) (fun g2 => ?_)))
  · exact yes V1 hR g1 (Or.inl g2)
  refine iX7_best_13 (iX7_best_14 ?_)
  refine jX7_best_15 hS (sp_isPerson hS hI.t hR.1 hw) ?_
  rintro z V2 ⟨rfl, hR2⟩
  refine iX7_best_18 bzR (fun h0 => have g3 := bz_eq h0; ?_) (fun h0 => have g3 := bz_ne h0; ?_)
  · exact no V2 hR2.1 (fun z => z.2.elim g2 g3)
  · exact yes V2 hR2 g1 (Or.inr g3)
