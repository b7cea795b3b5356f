/-! the model: the search by sales -/
/-- so many figures by eights, the first the lowest -/
def enc (f : Nat → Nat) : Nat → Nat
  | 0 => 0
  | n + 1 => f 0 + 8 * enc (fun i => f (i + 1)) n
theorem enc_ext {f g : Nat → Nat} : ∀ {n : Nat}, (∀ i, i < n → f i = g i) → enc f n = enc g n
  | 0, _ => rfl
  | n + 1, h => by
    show f 0 + 8 * enc (fun i => f (i + 1)) n = g 0 + 8 * enc (fun i => g (i + 1)) n
    rw [h 0 (by omega), enc_ext (f := fun i => f (i + 1)) (g := fun i => g (i + 1)) (fun i hi => h (i + 1) (by omega))]
theorem enc_lt {f : Nat → Nat} : ∀ {n : Nat}, (∀ i, i < n → f i < 8) → enc f n < 8 ^ n
  | 0, _ => by show 0 < 1; decide
  | n + 1, h => by
    have h1 := enc_lt (f := fun i => f (i + 1)) (n := n) (fun i hi => h (i + 1) (by omega))
    have h2 := h 0 (by omega)
    show f 0 + 8 * enc (fun i => f (i + 1)) n < 8 ^ (n + 1)
    rw [Nat.pow_succ]
    omega
theorem pow8 {n : Nat} (h : n ≤ 4) : 8 ^ n ≤ 4096 := Nat.pow_le_pow_right (n := 8) (by decide) h
def dcd (x : Nat) : NN := (fun i => ((x / 8 ^ i % 8 : Nat) : Int), fun p => (p : Int), fun _ => 0)
noncomputable def nx (V : MVal) (x : Nat) (h p : Nat) : Nat := enc (fun i => ((sl (eN V (pl V)) (dcd x) (h : Int) (p : Int)).1 i).toNat) (nH V)
theorem dcd_NR {V : MVal} (hI : MI V) (x : Nat) : NR (eN V (pl V)) 0 (dcd x) :=
  ⟨nH_le V, nP_le V, hI.l, WR.pl V, fun i _ => by
    have := Nat.mod_lt (x / 8 ^ i) (show 0 < 8 by decide)
    show 0 ≤ ((x / 8 ^ i % 8 : Nat) : Int) ∧ ((x / 8 ^ i % 8 : Nat) : Int) ≤ 7
    omega, fun p hp => ⟨⟨(by show (0 : Int) ≤ (p : Int); omega), (by show (p : Int) < (nP V : Int); have : p < nP V := hp; omega)⟩, Int.le_refl _, Int.le_refl _⟩⟩
theorem nx_lt {V : MVal} (hI : MI V) (x h p : Nat) : nx V x h p < 8 ^ nH V := enc_lt (fun i hi => by
  have := (NR.sl (dcd_NR hI x) (x := (h : Int)) (b := (p : Int)) (by omega) (by omega)).2.2.2.2.1 i hi
  omega)
/-- what is marked, in what order, how many -/
abbrev BF : Type := (Nat → Int) × (Nat → Nat) × Nat
def bAdd (B : BF) (x y : Nat) : BF := if B.1 y = -1 then (fun z => if z = y then B.1 x + 1 else B.1 z, fun k => if k = B.2.2 then y else B.2.1 k, B.2.2 + 1) else B
noncomputable def bCode (V : MVal) (x : Nat) (B : BF) (c : Nat) : BF := if c % 8 < nP V then bAdd B x (nx V x (c / 8) (c % 8)) else B
noncomputable def bRow (V : MVal) (x : Nat) (B : BF) : Nat → BF
  | 0 => B
  | c + 1 => bCode V x (bRow V x B c) c
noncomputable def bRun (V : MVal) : Nat → Nat → BF → BF
  | 0, _, B => B
  | f + 1, k, B => if k < B.2.2 then bRun V f (k + 1) (bRow V (B.2.1 k) B (8 * nH V)) else B
def b0 (x : Nat) : BF := (fun z => if z = x then 0 else -1, fun _ => x, 1)
/-- all is in its bounds -/
def BV (m : Nat) (B : BF) : Prop := (∀ k, k < B.2.2 → B.2.1 k < m ∧ B.1 (B.2.1 k) ≠ -1) ∧ B.2.2 = cntC (fun y => B.1 y ≠ -1) m ∧ ∀ y, -1 ≤ B.1 y ∧ B.1 y < B.2.2
theorem cntC_lt {f : Nat → Prop} {y : Nat} (hf : ¬ f y) : ∀ {m : Nat}, y < m → cntC f m < m
  | m + 1, h => by
    show cntC f m + cif (f m) 1 0 < m + 1
    by_cases e : y = m
    · subst e
      rw [cif_f hf]
      have := cntC_le f y
      omega
    · have := cntC_lt hf (m := m) (by omega)
      by_cases c : f m
      · rw [cif_t c]; omega
      · rw [cif_f c]; omega
theorem cntC_add {f g : Nat → Prop} {y : Nat} (hf : ¬ f y) (hg : ∀ z, g z ↔ f z ∨ z = y) : ∀ {m : Nat}, cntC g m = cntC f m + if y < m then 1 else 0
  | 0 => by simp [cntC]
  | m + 1 => by
    show cntC g m + cif (g m) 1 0 = cntC f m + cif (f m) 1 0 + _
    rw [cntC_add hf hg (m := m)]
    by_cases e : y = m
    · subst e
      rw [cif_t ((hg y).mpr (Or.inr rfl)), cif_f hf]
      simp
    · have : g m ↔ f m := ⟨fun z => ((hg m).mp z).resolve_right (Ne.symm e), fun z => (hg m).mpr (Or.inl z)⟩
      rw [cif_iff this]
      by_cases e2 : y < m
      · rw [if_pos e2, if_pos (by omega)]; omega
      · rw [if_neg e2, if_neg (by omega)]; omega
theorem BV.le {m : Nat} {B : BF} (h : BV m B) : B.2.2 ≤ m := by rw [h.2.1]; exact cntC_le _ _
theorem BV.lt {m : Nat} {B : BF} (h : BV m B) {y : Nat} (hy : y < m) (hd : B.1 y = -1) : B.2.2 < m := by
  rw [h.2.1]; exact cntC_lt (y := y) (fun z => z hd) hy
theorem BV.add {m : Nat} {B : BF} (h : BV m B) {x y : Nat} (hy : y < m) (hx : B.1 x ≠ -1) : BV m (bAdd B x y) := by
  unfold bAdd
  by_cases c : B.1 y = -1
  · rw [if_pos c]
    have hb := h.2.2
    refine ⟨fun k hk => ?_, ?_, fun z => ?_⟩
    · show (if k = B.2.2 then y else B.2.1 k) < m ∧ (if (if k = B.2.2 then y else B.2.1 k) = y then B.1 x + 1 else B.1 (if k = B.2.2 then y else B.2.1 k)) ≠ -1
      have hk : k < B.2.2 + 1 := hk
      have := hb x
      by_cases e : k = B.2.2
      · rw [if_pos e, if_pos rfl]; exact ⟨hy, by omega⟩
      · rw [if_neg e]
        obtain ⟨h1, h2⟩ := h.1 k (by omega)
        refine ⟨h1, ?_⟩
        split
        · omega
        · exact h2
    · show B.2.2 + 1 = cntC (fun z => (if z = y then B.1 x + 1 else B.1 z) ≠ -1) m
      have := hb x
      rw [cntC_add (f := fun z => B.1 z ≠ -1) (y := y) (fun z => z c) (fun z => ?_), if_pos hy, h.2.1]
      by_cases e : z = y
      · rw [if_pos e]; exact ⟨fun _ => Or.inr e, fun _ => by omega⟩
      · rw [if_neg e]; exact ⟨Or.inl, fun w => w.resolve_right e⟩
    · show -1 ≤ (if z = y then B.1 x + 1 else B.1 z) ∧ (if z = y then B.1 x + 1 else B.1 z) < ((B.2.2 + 1 : Nat) : Int)
      have h1 := hb x
      have h2 := hb z
      split <;> omega
  · rw [if_neg c]; exact h
theorem bAdd_x {B : BF} {x y z : Nat} (h : B.1 z ≠ -1) : (bAdd B x y).1 z = B.1 z := by
  unfold bAdd
  split
  · rename_i c
    show (if z = y then B.1 x + 1 else B.1 z) = B.1 z
    rw [if_neg (fun e => h (by rw [e]; exact c))]
  · rfl
theorem bRow_ok {V : MVal} (hI : MI V) (h4 : nH V ≤ 4) {x : Nat} {B : BF} (h : BV 4096 B) (hx : B.1 x ≠ -1) : ∀ c, BV 4096 (bRow V x B c) ∧ (bRow V x B c).1 x ≠ -1
  | 0 => ⟨h, hx⟩
  | c + 1 => by
    obtain ⟨h1, h2⟩ := bRow_ok hI h4 h hx c
    show BV 4096 (bCode V x (bRow V x B c) c) ∧ (bCode V x (bRow V x B c) c).1 x ≠ -1
    unfold bCode
    by_cases g : c % 8 < nP V
    · rw [if_pos g]
      refine ⟨h1.add (Nat.lt_of_lt_of_le (nx_lt hI _ _ _) (pow8 h4)) h2, ?_⟩
      rw [bAdd_x h2]; exact h2
    · rw [if_neg g]; exact ⟨h1, h2⟩
theorem b0_ok {x : Nat} (hx : x < 4096) : BV 4096 (b0 x) := by
  refine ⟨fun k _ => ⟨hx, ?_⟩, ?_, fun y => ?_⟩
  · show (if x = x then (0 : Int) else -1) ≠ -1
    rw [if_pos rfl]; decide
  · show 1 = cntC (fun y => (if y = x then (0 : Int) else -1) ≠ -1) 4096
    have c0 : ∀ m, cntC (fun _ => False) m = 0 := fun m => by
      induction m with
      | zero => rfl
      | succ m ih => show cntC (fun _ => False) m + cif False 1 0 = 0; rw [ih, cif_f id]
    rw [cntC_add (f := fun _ => False) (y := x) id (fun z => ?_), if_pos hx, c0]
    by_cases e : z = x
    · rw [if_pos e]; exact ⟨fun _ => Or.inr e, fun _ => by decide⟩
    · rw [if_neg e]; exact ⟨fun w => absurd rfl w, fun w => absurd (w.resolve_left id) e⟩
  · show -1 ≤ (if y = x then (0 : Int) else -1) ∧ (if y = x then (0 : Int) else -1) < ((1 : Nat) : Int)
    split <;> omega
set_option maxHeartbeats 2000000 in
theorem sp_ownsBy {d : Nat} {M : MH} {V0 V : MVal} (hS : MS (msh M) (mrv M)) (hR : RSt V0 V) {x : Nat} (hx : x < 4096) : MVv mX7_ownsBy (d + 1) [vp 94, vi x] M V (fun V' => FrN V V' ∧ (∀ i, i < nH V0 → V' 105 i = (dcd x).1 i) ∧ ∀ p, p < nP V0 → V' 106 p = p ∧ V' 107 p = 0) := by
  refine mc_of (L := [vp 94, vi x, vu, vu]) (by decide +kernel) (Nat.le_of_ble_eq_true rfl) rfl ?_
  have h8 := nH_le V0
  have n8 := nP_le V0
  refine iX7_ownsBy_0 ?_
  refine jX7_ownsBy_1 hS (sp_begins hS hR) ?_
  rintro V1 ⟨a1, a2, a3⟩
  refine iX7_ownsBy_4 (iX7_ownsBy_5 (iX7_ownsBy_6 (iX7_ownsBy_7 ?_)))
  have loop : ∀ f k : Nat, ∀ (y : Int) (W : MVal), k + f = nH V0 → ((x / 8 ^ k : Nat) : Int) = y → FrN V W → (∀ i, i < k → W 105 i = (dcd x).1 i) → (∀ p, p < nP V0 → W 106 p = p ∧ W 107 p = 0) → MW mX7_ownsBy (d + 1) 8 [vp 94, vi x, vi y, vi k] [] (sI M W) (Vv M (fun V' => FrN V V' ∧ (∀ i, i < nH V0 → V' 105 i = (dcd x).1 i) ∧ ∀ p, p < nP V0 → V' 106 p = p ∧ V' 107 p = 0)) := by
    intro f
    induction f with
    | zero =>
      intro k y W h1 h2 h3 h4 h5
      have e2 := (hR.fr h3.r).2.1
      refine iX7_ownsBy_8 (iX7_ownsBy_9 (jX7_ownsBy_10 hS (iX7_ownsBy_13 (by omega) (by omega) (fun g => ?_) (fun g => ?_))))
      · refine iX7_ownsBy_37 ?_
        exact ⟨W, rfl, h3, fun i hi => h4 i (by omega), h5⟩
      · omega
    | succ f ih =>
      intro k y W h1 h2 h3 h4 h5
      have e2 := (hR.fr h3.r).2.1
      have ek : ((k : Int)).toNat = k := by omega
      have dl : x / 8 ^ k ≤ x := Nat.div_le_self _ _
      have y0 : 0 ≤ y ∧ y ≤ 4096 := by rw [← h2]; exact ⟨Int.natCast_nonneg _, Int.ofNat_le.mpr (show x / 8 ^ k ≤ 4096 from Nat.le_trans dl (by omega))⟩
      refine iX7_ownsBy_8 (iX7_ownsBy_9 (jX7_ownsBy_10 hS (iX7_ownsBy_13 (by omega) (by omega) (fun g => ?_) (fun g => ?_))))
      · omega
      refine iX7_ownsBy_16 (jX7_ownsBy_17 hS (iX7_ownsBy_20 (iX7_ownsBy_21 (iX7_ownsBy_22 (iX7_ownsBy_24 (by omega) (by omega) (jX7_ownsBy_25 hS ⟨by omega, by omega⟩ (iX7_ownsBy_26 (iX7_ownsBy_27 (iX7_ownsBy_29 (by omega) (by omega) (iX7_ownsBy_30 (iX7_ownsBy_31 (iX7_ownsBy_34 ?_))))))))))))
      rw [ek]
      refine ih (k + 1) _ _ (by omega) ?_ (h3.wr (by omega)) (fun i hi => ?_) (fun p hp => by rw [u2_ne (by decide), u2_ne (by decide)]; exact h5 p hp)
      · rw [← h2, Nat.pow_succ, ← Nat.div_div_eq_div_mul]; rfl
      · by_cases e : i = k
        · subst e
          rw [u2_at, ← h2]; rfl
        · rw [u2_off e]; exact h4 i (by omega)
  exact loop (nH V0) 0 _ V1 (by omega) (by rw [Nat.pow_zero, Nat.div_one]) a1 (fun i hi => absurd hi (by omega)) (fun p hp => a3 p (by omega))
theorem sp_stateNow {d : Nat} {M : MH} {V : MVal} {H : Nat} {f : Nat → Nat} (hS : MS (msh M) (mrv M)) (h2 : V 94 2 = H) (h4 : H ≤ 4) (hf : ∀ i, i < H → V 105 i = (f i : Int)) : MVi mX7_stateNow d [vp 94] M V (fun z V' => z = (enc f H : Int) ∧ V = V') := by
  refine mc_of (L := [vp 94, vu, vu]) (by decide +kernel) (Nat.le_of_ble_eq_true rfl) rfl ?_
  have loop : ∀ j : Nat, ∀ (y k : Int), j ≤ H → ((enc (fun i => f (i + j)) (H - j) : Nat) : Int) = y → (j : Int) - 1 = k → MW mX7_stateNow d 9 [vp 94, vi y, vi k] [] (sI M V) (Vi M (fun z V' => z = (enc f H : Int) ∧ V = V')) := by
    intro j
    induction j with
    | zero =>
      intro y k h1 h3 h5
      refine iX7_stateNow_9 (iX7_stateNow_10 (by omega) (fun g => ?_) (fun g => ?_))
      · refine iX7_stateNow_31 (iX7_stateNow_32 ?_)
        exact ⟨V, rfl, h3.symm, rfl⟩
      · omega
    | succ j ih =>
      intro y k h1 h3 h5
      have ek : k.toNat = j := by omega
      refine iX7_stateNow_9 (iX7_stateNow_10 (by omega) (fun g => ?_) (fun g => ?_))
      · omega
      refine iX7_stateNow_13 (iX7_stateNow_15 (iX7_stateNow_16 (iX7_stateNow_17 (jX7_stateNow_18 hS (iX7_stateNow_21 (jX7_stateNow_22 hS ⟨by omega, by omega⟩ ?_))))))
      rw [ek, hf j (by omega)]
      refine iX7_stateNow_23 (iX7_stateNow_24 (iX7_stateNow_25 (iX7_stateNow_28 ?_)))
      refine ih _ _ (by omega) ?_ (by omega)
      rw [← h3, show H - j = (H - (j + 1)) + 1 by omega]
      show ((f (0 + j) + 8 * enc (fun i => f (i + 1 + j)) (H - (j + 1)) : Nat) : Int) = _
      rw [show (fun i => f (i + 1 + j)) = fun i => f (i + (j + 1)) from funext fun i => by rw [show i + 1 + j = i + (j + 1) by omega], Nat.zero_add]
      omega
  refine iX7_stateNow_0 (iX7_stateNow_1 (iX7_stateNow_2 (jX7_stateNow_3 hS (iX7_stateNow_6 (iX7_stateNow_7 (iX7_stateNow_8 ?_))))))
  rw [h2]
  exact loop H 0 _ (by omega) (by rw [Nat.sub_self]; rfl) rfl
noncomputable def shR (V : MVal) : BF := bRun V 4096 0 (b0 (enc (fun i => (ow V i).toNat) (nH V)))
abbrev itP (V : MVal) (s h : Nat) : Prop := 0 ≤ V 120 (48 * s + h) ∧ V 120 (48 * s + h) ≤ (nP V : Int) - 1
noncomputable def sdQ (V : MVal) (s : Nat) : Int := if 4 < nH V then -4 else if V 119 s < nH V then -3 else cif (∀ h, h < nH V → itP V s h) ((shR V).1 (enc (fun h => (V 120 (48 * s + h)).toNat) (nH V))) (-3)
set_option maxHeartbeats 16000000 in
theorem sp_shouldOf {d : Nat} {M : MH} {V0 V : MVal} (hS : MS (msh M) (mrv M)) (hI : MI V0) (hR : RSt V0 V) {s : Nat} (hs : s < 4) : MVi mX7_shouldOf (d + 4) [vp 94, vi s] M V (fun z V' => z = sdQ V0 s ∧ PEq V0 V') := by
  refine mc_of (L := [vp 94, vi s, vu, vu, vu, vu, vu, vu, vu, vu]) (by decide +kernel) (Nat.le_of_ble_eq_true rfl) rfl ?_
  have n8 := nP_le V0
  have h8 := nH_le V0
  have e2 := hR.2.1
  have e5 := hR.2.2.1
  have hh := hI.h s hs
  have e119 := hR.1.1 119 rfl
  have e120 := hR.1.1 120 rfl
  unfold sdQ
  refine iX7_shouldOf_0 (jX7_shouldOf_1 hS (iX7_shouldOf_4 (iX7_shouldOf_5 (by omega) (by omega) (fun g => ?_) (fun g => ?_))))
  rotate_left
  · refine iX7_shouldOf_8 (iX7_shouldOf_10 ?_)
    exact ⟨V, rfl, by rw [if_pos (by omega)], hR.1⟩
  rw [if_neg (by omega)]
  have h4 : nH V0 ≤ 4 := by omega
  refine iX7_shouldOf_11 (jX7_shouldOf_12 hS (iX7_shouldOf_15 (jX7_shouldOf_16 hS ⟨by omega, by omega⟩ ?_)))
  rw [Int.toNat_natCast, e119]
  refine iX7_shouldOf_17 (jX7_shouldOf_18 hS (iX7_shouldOf_21 (by omega) (by omega) (fun g1 => ?_) (fun g1 => ?_)))
  rotate_left
  · refine iX7_shouldOf_24 (iX7_shouldOf_26 ?_)
    exact ⟨V, rfl, by rw [if_pos (by omega)], hR.1⟩
  rw [if_neg (by omega)]
  -- the search
  have main : (∀ h, h < nH V0 → itP V0 s h) → ∀ f k : Nat, ∀ (B : BF) (W : MVal) (m3 : Int) (m6 m7 m8 m9 : MV), k + f = 4096 → BV 4096 B → RSt V0 W → (∀ y, y < 4096 → W 112 y = B.1 y) → (∀ j, j < B.2.2 → W 113 j = (B.2.1 j : Int)) → (∀ p, p < nP V0 → W 104 p = pl V0 p) → MW mX7_shouldOf (d + 4) 142 [vp 94, vi s, vi (enc (fun h => (V0 120 (48 * s + h)).toNat) (nH V0) : Int), vi m3, vi B.2.2, vi k, m6, m7, m8, m9] [] (sI M W) (Vi M (fun z V' => z = (bRun V0 f k B).1 (enc (fun h => (V0 120 (48 * s + h)).toNat) (nH V0)) ∧ PEq V0 V')) := by
    intro hit f
    have due : enc (fun h => (V0 120 (48 * s + h)).toNat) (nH V0) < 4096 := Nat.lt_of_lt_of_le (enc_lt (fun i hi => by have := hit i hi; omega)) (pow8 h4)
    induction f with
    | zero =>
      intro k B W m3 m6 m7 m8 m9 h1 hB hW h2 h3 h5
      have := hB.le
      refine iX7_shouldOf_142 (iX7_shouldOf_144 (iX7_shouldOf_146 (by omega) (by omega) (fun g2 => ?_) (fun g2 => ?_)))
      · refine iX7_shouldOf_264 (jX7_shouldOf_265 hS (iX7_shouldOf_268 (jX7_shouldOf_269 hS ⟨by omega, by omega⟩ (iX7_shouldOf_270 ?_))))
        rw [Int.toNat_natCast]
        exact ⟨W, rfl, h2 _ due, hW.1⟩
      · omega
    | succ f ih =>
      intro k B W m3 m6 m7 m8 m9 h1 hB hW h2 h3 h5
      have hle := hB.le
      refine iX7_shouldOf_142 (iX7_shouldOf_144 (iX7_shouldOf_146 (by omega) (by omega) (fun g2 => ?_) (fun g2 => ?_)))
      · refine iX7_shouldOf_264 (jX7_shouldOf_265 hS (iX7_shouldOf_268 (jX7_shouldOf_269 hS ⟨by omega, by omega⟩ (iX7_shouldOf_270 ?_))))
        rw [Int.toNat_natCast]
        refine ⟨W, rfl, ?_, hW.1⟩
        unfold bRun
        rw [if_neg (by omega)]
        exact h2 _ due
      unfold bRun
      rw [if_pos (by omega)]
      obtain ⟨x1, x2⟩ := hB.1 k (by omega)
      refine iX7_shouldOf_149 (jX7_shouldOf_150 hS (iX7_shouldOf_153 (jX7_shouldOf_155 hS ⟨by omega, by omega⟩ ?_)))
      rw [Int.toNat_natCast, h3 k (by omega)]
      refine iX7_shouldOf_156 (iX7_shouldOf_158 (iX7_shouldOf_159 ?_))
      generalize B.2.1 k = x at x1 x2
      have row : ∀ fc c : Nat, ∀ (W : MVal) (m8 m9 : MV), c + fc = 8 * nH V0 → RSt V0 W → (∀ y, y < 4096 → W 112 y = (bRow V0 x B c).1 y) → (∀ j, j < (bRow V0 x B c).2.2 → W 113 j = ((bRow V0 x B c).2.1 j : Int)) → (∀ p, p < nP V0 → W 104 p = pl V0 p) → MW mX7_shouldOf (d + 4) 161 [vp 94, vi s, vi (enc (fun h => (V0 120 (48 * s + h)).toNat) (nH V0) : Int), vi m3, vi (bRow V0 x B c).2.2, vi k, vi x, vi c, m8, m9] [] (sI M W) (Vi M (fun z V' => z = (bRun V0 f (k + 1) (bRow V0 x B (8 * nH V0))).1 (enc (fun h => (V0 120 (48 * s + h)).toNat) (nH V0)) ∧ PEq V0 V')) := by
        intro fc
        induction fc with
        | zero =>
          intro c W m8 m9 q1 q2 q3 q4 q5
          have : c = 8 * nH V0 := by omega
          subst this
          have e2 := q2.2.1
          refine iX7_shouldOf_161 (iX7_shouldOf_163 (iX7_shouldOf_165 (jX7_shouldOf_166 hS (iX7_shouldOf_169 (iX7_shouldOf_170 (by omega) (by omega) (fun g3 => ?_) (fun g3 => ?_))))))
          rotate_left
          · omega
          refine iX7_shouldOf_258 (iX7_shouldOf_261 ?_)
          exact ih (k + 1) _ W _ _ _ _ _ (by omega) (bRow_ok hI h4 hB x2 _).1 q2 q3 q4 q5
        | succ fc ihc =>
          intro c W m8 m9 q1 q2 q3 q4 q5
          have e2 := q2.2.1
          have e5 := q2.2.2.1
          obtain ⟨b1, b2⟩ := bRow_ok hI h4 hB x2 c
          have es : bRow V0 x B (c + 1) = bCode V0 x (bRow V0 x B c) c := rfl
          have nxt : ∀ (W : MVal) (m8 m9 : MV), RSt V0 W → (∀ y, y < 4096 → W 112 y = (bRow V0 x B (c + 1)).1 y) → (∀ j, j < (bRow V0 x B (c + 1)).2.2 → W 113 j = ((bRow V0 x B (c + 1)).2.1 j : Int)) → (∀ p, p < nP V0 → W 104 p = pl V0 p) → MW mX7_shouldOf (d + 4) 252 [vp 94, vi s, vi (enc (fun h => (V0 120 (48 * s + h)).toNat) (nH V0) : Int), vi m3, vi (bRow V0 x B (c + 1)).2.2, vi k, vi x, vi c, m8, m9] [] (sI M W) (Vi M (fun z V' => z = (bRun V0 f (k + 1) (bRow V0 x B (8 * nH V0))).1 (enc (fun h => (V0 120 (48 * s + h)).toNat) (nH V0)) ∧ PEq V0 V')) := by
            intro W m8 m9 r2 r3 r4 r5
            refine iX7_shouldOf_252 (iX7_shouldOf_255 ?_)
            exact ihc (c + 1) W m8 m9 (by omega) r2 r3 r4 r5
          refine iX7_shouldOf_161 (iX7_shouldOf_163 (iX7_shouldOf_165 (jX7_shouldOf_166 hS (iX7_shouldOf_169 (iX7_shouldOf_170 (by omega) (by omega) (fun g3 => ?_) (fun g3 => ?_))))))
          · omega
          refine iX7_shouldOf_173 (iX7_shouldOf_175 (iX7_shouldOf_177 (by omega) (by omega) (iX7_shouldOf_178 (jX7_shouldOf_179 hS (iX7_shouldOf_182 (by omega) (by omega) (fun g4 => ?_) (fun g4 => ?_))))))
          · have := nxt W m8 m9 q2
            rw [es, show bCode V0 x (bRow V0 x B c) c = bRow V0 x B c by unfold bCode; rw [if_neg (by omega)]] at this
            exact this q3 q4 q5
          have ec : bRow V0 x B (c + 1) = bAdd (bRow V0 x B c) x (nx V0 x (c / 8) (c % 8)) := by rw [es]; unfold bCode; rw [if_pos (by omega)]
          have hnx : nx V0 x (c / 8) (c % 8) < 4096 := Nat.lt_of_lt_of_le (nx_lt hI _ _ _) (pow8 h4)
          generalize bRow V0 x B c = B2 at q3 q4 b1 b2 ec
          refine iX7_shouldOf_185 (iX7_shouldOf_186 ?_)
          refine jX7_shouldOf_188 hS (sp_ownsBy hS q2 x1) ?_
          rintro W1 ⟨a1, a2, a3⟩
          have q2b := q2.fr a1.r
          have a4 : ∀ p, p < nP V0 → W1 104 p = pl V0 p := fun p hp => by rw [a1 104 (by decide) (by decide) (by decide) (by decide)]; exact q5 p hp
          refine iX7_shouldOf_191 (iX7_shouldOf_192 (iX7_shouldOf_194 (iX7_shouldOf_196 (by omega) (by omega) (iX7_shouldOf_197 (iX7_shouldOf_199 (iX7_shouldOf_201 (by omega) (by omega) ?_))))))
          refine jX7_shouldOf_202 hS (sp_sells hS (q2b.noon (N := dcd x) a4 a2 a3) (dcd_NR hI x) (by omega) (by omega) (by omega)) ?_
          rintro z W2 ⟨-, c1, c2⟩
          have q2c := q2b.fr c2.r
          have nr := (NR.sl (dcd_NR hI x) (x := (c : Int) / 8) (b := (c : Int) % 8) (by omega) (by omega)).2.2.2.2.1
          have hst : ∀ i, i < nH V0 → W2 105 i = ((((sl (eN V0 (pl V0)) (dcd x) ((c : Int) / 8) ((c : Int) % 8)).1 i).toNat : Nat) : Int) := fun i hi => by
            have e := c1.2.2.2.2.1 i hi
            have := nr i hi
            omega
          refine iX7_shouldOf_205 (iX7_shouldOf_207 ?_)
          refine jX7_shouldOf_208 hS (sp_stateNow hS (f := fun i => ((sl (eN V0 (pl V0)) (dcd x) ((c : Int) / 8) ((c : Int) % 8)).1 i).toNat) q2c.2.1 h4 hst) ?_
          rintro z W3 ⟨rfl, rfl⟩
          change MW mX7_shouldOf (d + 4) 211 _ [vi ((nx V0 x (c / 8) (c % 8) : Nat) : Int)] _ _
          generalize nx V0 x (c / 8) (c % 8) = y at ec hnx
          have hfr := a1.tr c2
          have w112 : ∀ z, z < 4096 → W2 112 z = B2.1 z := fun z hz => by rw [hfr 112 (by decide) (by decide) (by decide) (by decide)]; exact q3 z hz
          have w113 : ∀ j, j < B2.2.2 → W2 113 j = (B2.2.1 j : Int) := fun j hj => by rw [hfr 113 (by decide) (by decide) (by decide) (by decide)]; exact q4 j hj
          have w104 : ∀ p, p < nP V0 → W2 104 p = pl V0 p := fun p hp => by rw [hfr 104 (by decide) (by decide) (by decide) (by decide)]; exact q5 p hp
          have hb3 := b1.2.2 y
          have hb4 := b1.2.2 x
          have hle2 := b1.le
          refine iX7_shouldOf_211 (iX7_shouldOf_213 (jX7_shouldOf_214 hS (iX7_shouldOf_217 (jX7_shouldOf_219 hS ⟨by omega, by omega⟩ ?_))))
          rw [Int.toNat_natCast, w112 y hnx]
          refine iX7_shouldOf_220 (iX7_shouldOf_221 (by omega) (by omega) (fun g5 => ?_) (fun g5 => ?_))
          · have := nxt W2 (vi z) (vi y) q2c
            rw [ec, show bAdd B2 x y = B2 by unfold bAdd; rw [if_neg g5]] at this
            exact this w112 w113 w104
          have hlt := b1.lt hnx (by omega)
          have eA : bAdd B2 x y = (fun z => if z = y then B2.1 x + 1 else B2.1 z, fun k => if k = B2.2.2 then y else B2.2.1 k, B2.2.2 + 1) := by unfold bAdd; rw [if_pos (by omega)]
          refine iX7_shouldOf_224 (jX7_shouldOf_225 hS (iX7_shouldOf_228 (iX7_shouldOf_230 (jX7_shouldOf_231 hS (iX7_shouldOf_234 (jX7_shouldOf_236 hS ⟨by omega, by omega⟩ ?_))))))
          rw [Int.toNat_natCast, w112 x x1]
          refine iX7_shouldOf_237 (iX7_shouldOf_238 (jX7_shouldOf_239 hS ⟨by omega, by omega⟩ (iX7_shouldOf_240 (jX7_shouldOf_241 hS (iX7_shouldOf_244 (iX7_shouldOf_246 (jX7_shouldOf_248 hS ⟨by omega, by omega⟩ (iX7_shouldOf_249 ?_))))))))
          rw [Int.toNat_natCast, Int.toNat_natCast]
          have := nxt (u2 (u2 W2 112 y (B2.1 x + 1)) 113 B2.2.2 (y : Int)) (vi z) (vi y) ((q2c.u rfl (by decide) (by decide)).u rfl (by decide) (by decide))
          rw [ec, eA] at this
          refine this (fun z hz => ?_) (fun j hj => ?_) (fun p hp => ?_)
          · show _ = if z = y then B2.1 x + 1 else B2.1 z
            rw [u2_ne (by decide)]
            by_cases e : z = y
            · rw [if_pos e, e, u2_at]
            · rw [if_neg e, u2_off e]; exact w112 z hz
          · show _ = (((if j = B2.2.2 then y else B2.2.1 j) : Nat) : Int)
            by_cases e : j = B2.2.2
            · rw [if_pos e, e, u2_at]
            · rw [if_neg e, u2_off e, u2_ne (by decide)]
              exact w113 j (by have hj : j < B2.2.2 + 1 := hj; omega)
          · rw [u2_ne (by decide), u2_ne (by decide)]; exact w104 p hp
      exact row (8 * nH V0) 0 W _ _ (by omega) hW h2 h3 h5
  -- the rows' beginning
  have clear : (∀ h, h < nH V0 → itP V0 s h) → ∀ f k : Nat, ∀ (W : MVal), k + f = 4096 → PEq V0 W → (∀ y, y < k → W 112 y = -1) → MW mX7_shouldOf (d + 4) 92 [vp 94, vi s, vi (enc (fun h => (V0 120 (48 * s + h)).toNat) (nH V0) : Int), vi k, vu, vu, vu, vu, vu, vu] [] (sI M W) (Vi M (fun z V' => z = (shR V0).1 (enc (fun h => (V0 120 (48 * s + h)).toNat) (nH V0)) ∧ PEq V0 V')) := by
    intro hit f
    induction f with
    | zero =>
      intro k W h1 h2 h3
      refine iX7_shouldOf_92 (iX7_shouldOf_93 (iX7_shouldOf_96 (by omega) (by omega) (fun g2 => ?_) (fun g2 => ?_)))
      rotate_left
      · omega
      refine iX7_shouldOf_112 (iX7_shouldOf_113 ?_)
      refine jX7_shouldOf_114 hS (sp_lays2 hS hI h2 (m := 0) (by omega)) ?_
      rintro W1 ⟨a1, a2⟩
      have hx0 : enc (fun i => (ow V0 i).toNat) (nH V0) < 4096 := Nat.lt_of_lt_of_le (enc_lt (fun i hi => by have := (ow_rng hi).1; omega)) (pow8 h4)
      have hst : ∀ i, i < nH V0 → W1 105 i = (((ow V0 i).toNat : Nat) : Int) := fun i hi => by
        have e : W1 105 i = ow V0 i := a1.2.1.2.2.2.2.1 i hi
        have := (ow_rng hi).1
        omega
      refine iX7_shouldOf_117 ?_
      refine jX7_shouldOf_118 hS (sp_stateNow hS (f := fun i => (ow V0 i).toNat) a1.1.2.1 h4 hst) ?_
      rintro z W2 ⟨rfl, rfl⟩
      unfold shR
      generalize enc (fun i => (ow V0 i).toNat) (nH V0) = x0 at hx0
      refine iX7_shouldOf_121 (iX7_shouldOf_122 (jX7_shouldOf_123 hS (iX7_shouldOf_126 (iX7_shouldOf_127 (jX7_shouldOf_128 hS ⟨by omega, by omega⟩ (iX7_shouldOf_129 (jX7_shouldOf_130 hS (iX7_shouldOf_133 (iX7_shouldOf_134 (jX7_shouldOf_135 hS (iX7_shouldOf_136 (iX7_shouldOf_137 (iX7_shouldOf_139 (iX7_shouldOf_140 ?_))))))))))))))
      rw [Int.toNat_natCast]
      refine main hit 4096 0 (b0 x0) _ _ _ _ _ _ (by omega) (b0_ok hx0) ((a1.1.u rfl (by decide) (by decide)).u rfl (by decide) (by decide)) (fun y hy => ?_) (fun j hj => ?_) (fun p hp => ?_)
      · show _ = if y = x0 then (0 : Int) else -1
        rw [u2_ne (by decide)]
        by_cases e : y = x0
        · rw [if_pos e, e, u2_at]
        · rw [if_neg e, u2_off e, a2]; exact h3 y (by omega)
      · have hj : j < 1 := hj
        have : j = 0 := by omega
        subst this
        rw [u2_at]; rfl
      · rw [u2_ne (by decide), u2_ne (by decide)]; exact a1.2.1.2.2.2.1 p hp
    | succ f ih =>
      intro k W h1 h2 h3
      refine iX7_shouldOf_92 (iX7_shouldOf_93 (iX7_shouldOf_96 (by omega) (by omega) (fun g2 => ?_) (fun g2 => ?_)))
      · omega
      refine iX7_shouldOf_99 (jX7_shouldOf_100 hS (iX7_shouldOf_103 (iX7_shouldOf_104 (jX7_shouldOf_105 hS ⟨by omega, by omega⟩ (iX7_shouldOf_106 (iX7_shouldOf_109 ?_))))))
      rw [Int.toNat_natCast]
      refine ih (k + 1) _ (by omega) (h2.scr rfl (by decide)) (fun y hy => ?_)
      by_cases e : y = k
      · rw [e, u2_at]
      · rw [u2_off e]; exact h3 y (by omega)
  -- what is due
  have dl : ∀ j : Nat, ∀ (y k : Int), j ≤ nH V0 → (∀ h, j ≤ h → h < nH V0 → itP V0 s h) → ((enc (fun i => (V0 120 (48 * s + (i + j))).toNat) (nH V0 - j) : Nat) : Int) = y → (j : Int) - 1 = k → MW mX7_shouldOf (d + 4) 36 [vp 94, vi s, vi y, vi k, vu, vu, vu, vu, vu, vu] [] (sI M V) (Vi M (fun z V' => z = cif (∀ h, h < nH V0 → itP V0 s h) ((shR V0).1 (enc (fun h => (V0 120 (48 * s + h)).toNat) (nH V0))) (-3) ∧ PEq V0 V')) := by
    intro j
    induction j with
    | zero =>
      intro y k h1 h2 h3 h5
      have hit : ∀ h, h < nH V0 → itP V0 s h := fun h hh => h2 h (by omega) hh
      refine iX7_shouldOf_36 (iX7_shouldOf_37 (by omega) (fun g2 => ?_) (fun g2 => ?_))
      rotate_left
      · omega
      refine iX7_shouldOf_90 (iX7_shouldOf_91 ?_)
      rw [cif_t hit, ← h3]
      exact clear hit 4096 0 V (by omega) hR.1 (fun y hy => absurd hy (by omega))
    | succ j ih =>
      intro y k h1 h2 h3 h5
      have t1 : (48 * (s : Int) + k).toNat = 48 * s + j := by omega
      have ri := hI.i s j hs (by omega)
      refine iX7_shouldOf_36 (iX7_shouldOf_37 (by omega) (fun g2 => ?_) (fun g2 => ?_))
      · omega
      refine iX7_shouldOf_40 (jX7_shouldOf_41 hS (iX7_shouldOf_44 (iX7_shouldOf_46 (iX7_shouldOf_47 (iX7_shouldOf_48 (iX7_shouldOf_49 (jX7_shouldOf_50 hS ⟨by omega, by omega⟩ ?_)))))))
      rw [t1, e120]
      refine iX7_shouldOf_51 (iX7_shouldOf_52 (jX7_shouldOf_53 hS (iX7_shouldOf_56 (iX7_shouldOf_57 (jX7_shouldOf_58 (sp_X7_in (by omega) (by omega) (by omega)) (iX7_shouldOf_61 bzR (fun h0 => have g3 := bz_ne h0; ?_) (fun h0 => have g3 := bz_eq h0; ?_)))))))
      rotate_left
      · refine iX7_shouldOf_64 (iX7_shouldOf_66 ?_)
        refine ⟨V, rfl, ?_, hR.1⟩
        rw [cif_f (fun z => g3 (by have := z j (by omega); omega))]
      refine iX7_shouldOf_67 (iX7_shouldOf_69 (iX7_shouldOf_70 (iX7_shouldOf_71 (jX7_shouldOf_72 hS (iX7_shouldOf_75 (iX7_shouldOf_77 (iX7_shouldOf_78 (iX7_shouldOf_79 (iX7_shouldOf_80 (jX7_shouldOf_81 hS ⟨by omega, by omega⟩ ?_))))))))))
      rw [t1, e120]
      refine iX7_shouldOf_82 (iX7_shouldOf_83 (iX7_shouldOf_84 (iX7_shouldOf_87 ?_)))
      refine ih _ _ (by omega) (fun h z1 z2 => ?_) ?_ (by omega)
      · by_cases e : h = j
        · subst e; exact ⟨by omega, by omega⟩
        · exact h2 h (by omega) z2
      · rw [← h3, show nH V0 - j = (nH V0 - (j + 1)) + 1 by omega]
        show (((V0 120 (48 * s + (0 + j))).toNat + 8 * enc (fun i => (V0 120 (48 * s + (i + 1 + j))).toNat) (nH V0 - (j + 1)) : Nat) : Int) = _
        rw [show (fun i => (V0 120 (48 * s + (i + 1 + j))).toNat) = fun i => (V0 120 (48 * s + (i + (j + 1)))).toNat from funext fun i => by rw [show i + 1 + j = i + (j + 1) by omega], Nat.zero_add]
        omega
  refine iX7_shouldOf_27 (iX7_shouldOf_28 (iX7_shouldOf_29 (jX7_shouldOf_30 hS (iX7_shouldOf_33 (iX7_shouldOf_34 (iX7_shouldOf_35 ?_))))))
  rw [e2]
  exact dl (nH V0) 0 _ (by omega) (fun h z1 z2 => absurd z1 (by omega)) (by rw [Nat.sub_self]; rfl) rfl
noncomputable def suZ (V : MVal) (s : Int) : Int := if shN s then (if V 117 s.toNat = 0 then -11 else sdQ V s.toNat) else -2
def suW (V : MVal) (s : Int) : MVal := if shN s then (if V 117 s.toNat = 0 then u2 V 94 32 1 else V) else V
theorem sp_should {d : Nat} {M : MH} {V0 V : MVal} (hS : MS (msh M) (mrv M)) (hI : MI V0) (hP : PEq V0 V) {s : Int} (hs : inR s) : MVi mX7_should (d + 5) [vp 94, vi s] M V (fun z V' => z = suZ V0 s ∧ PEq (suW V0 s) V') := by
  refine mc_of (L := [vp 94, vi s]) (by decide +kernel) (Nat.le_of_ble_eq_true rfl) rfl ?_
  unfold suZ suW
  refine iX7_should_0 (jX7_should_1 (sp_X7_isSheet (by omega)) (iX7_should_4 bzR (fun h0 => have g1 := bz_ne h0; ?_) (fun h0 => have g1 := bz_eq h0; ?_)))
  rotate_left
  · refine iX7_should_7 (iX7_should_9 ?_)
    exact ⟨V, rfl, by rw [if_neg g1], by rw [if_neg g1]; exact hP⟩
  rw [if_pos g1, if_pos g1]
  have e117 := hP.1 117 rfl
  have hh := hI.h s.toNat (by omega)
  refine iX7_should_10 (jX7_should_11 hS (iX7_should_14 (jX7_should_15 hS ⟨by omega, by omega⟩ ?_)))
  rw [e117]
  refine iX7_should_16 (by omega) (fun g2 => ?_) (fun g2 => ?_)
  · rw [if_neg (by omega), if_neg (by omega)]
    obtain ⟨s, rfl⟩ := Int.eq_ofNat_of_zero_le g1.1
    refine iX7_should_25 ?_
    refine jX7_should_26 hS (sp_reads hS hI.t hP) ?_
    intro V1 hR
    refine iX7_should_29 (iX7_should_30 ?_)
    refine jX7_should_31 hS (sp_shouldOf hS hI hR (s := s) (by omega)) ?_
    rintro z V2 ⟨rfl, h2⟩
    refine iX7_should_34 ?_
    exact ⟨V2, rfl, rfl, h2⟩
  · rw [if_pos (by omega), if_pos (by omega)]
    refine iX7_should_19 (iX7_should_20 ?_)
    refine jX7_should_21 hS (sp_meets hS) ?_
    rintro z V1 ⟨rfl, rfl⟩
    refine iX7_should_24 ?_
    exact ⟨_, rfl, rfl, hP.wr _ _ _⟩
