/-! the model: sheets -/
abbrev inL (a : Int) : Prop := -4611686018427387904 ≤ a ∧ a ≤ 4611686018427387904
theorem mw_lcmpW {Y : MD} {d pc nx : Nat} {L S : List MV} {M : MH} {Q : Out → MH → Prop} {a b : Int} (h : Dk Y pc .lcmp 1 nx) (ha : inL a) (hb : inL b) (k : MW Y d nx L (vi (lcm a b) :: S) M Q) : MW Y d pc L (vl b :: vl a :: S) M Q := by
  intro G M0 p l e R s m args below meth c H locs ls C
  obtain ⟨hd, rfl⟩ := h
  have K := k G M0 p l e R s m args below meth c H locs ls C
  have e : Int32.ofInt (lcm a b) = lg_cmp (Int64.ofInt a) (Int64.ofInt b) := by
    have e1 : (Int64.ofInt b < Int64.ofInt a) ↔ b < a := by
      rw [Int64.lt_iff_toInt_lt, Int64.toInt_ofInt_of_le (by omega) (by omega), Int64.toInt_ofInt_of_le (by omega) (by omega)]
    have e2 : (Int64.ofInt a = Int64.ofInt b) ↔ a = b := by
      rw [← Int64.toInt_inj, Int64.toInt_ofInt_of_le (by omega) (by omega), Int64.toInt_ofInt_of_le (by omega) (by omega)]
    unfold lcm lg_cmp
    by_cases h1 : b < a
    · rw [if_pos h1]; simp [e1, h1]
    · rw [if_neg h1]
      by_cases h2 : a = b
      · simp [h2]
      · simp [e1, e2, h1, h2]
  exact W.lcmp C.1.1 C.1.2.1 hd (by rw [← e]; exact K)
theorem mw_lcmpE {Y : MD} {d pc nx : Nat} {L S : List MV} {M : MH} {Q : Out → MH → Prop} {a : Int} (h : Dk Y pc .lcmp 1 nx) (k : MW Y d nx L (vi 0 :: S) M Q) : MW Y d pc L (vl a :: vl a :: S) M Q := by
  intro G M0 p l e R s m args below meth c H locs ls C
  obtain ⟨hd, rfl⟩ := h
  have K := k G M0 p l e R s m args below meth c H locs ls C
  have e : Int32.ofInt 0 = lg_cmp (Int64.ofInt a) (Int64.ofInt a) := by
    unfold lg_cmp
    simp
  exact W.lcmp C.1.1 C.1.2.1 hd (by rw [← e]; exact K)
theorem kX7_copy_89 {d : Nat} {L S : List MV} {M : MH} {Q : Out → MH → Prop} {a b : Int} (ha : inL a) (hb : inL b) (k : MW mX7_copy d 90 (L) (vi (lcm a b) :: S) M Q) : MW mX7_copy d 89 (L) (vl b :: vl a :: S) M Q := mw_lcmpW ⟨dX7_copy_89, rfl⟩ ha hb k
theorem kX7_copy_107 {d : Nat} {L S : List MV} {M : MH} {Q : Out → MH → Prop} {a b : Int} (ha : inL a) (hb : inL b) (k : MW mX7_copy d 108 (L) (vi (lcm a b) :: S) M Q) : MW mX7_copy d 107 (L) (vl b :: vl a :: S) M Q := mw_lcmpW ⟨dX7_copy_107, rfl⟩ ha hb k
theorem lcmR (a b : Int) : lcm a b = 1 ∧ b < a ∨ lcm a b = 0 ∧ a = b ∨ lcm a b = -1 ∧ a < b := by
  unfold lcm
  by_cases h1 : b < a
  · rw [if_pos h1]; exact Or.inl ⟨rfl, h1⟩
  · rw [if_neg h1]
    by_cases h2 : a = b
    · rw [if_pos h2]; exact Or.inr (Or.inl ⟨rfl, h2⟩)
    · rw [if_neg h2]; exact Or.inr (Or.inr ⟨rfl, by omega⟩)
abbrev shN (s : Int) : Prop := 0 ≤ s ∧ s ≤ 3
abbrev fmN (s f : Int) : Prop := (0 ≤ s ∧ s ≤ 3) ∧ 0 ≤ f ∧ f ≤ 2
/-- the first k items of the sheet s blank -/
def clr (V : MVal) (s k : Nat) : MVal := fun q j => if q = 120 ∧ 48 * s ≤ j ∧ j < 48 * s + k then 0 else V q j
theorem clr_s (V : MVal) (s k : Nat) : u2 (clr V s k) 120 (48 * s + k) 0 = clr V s (k + 1) := by
  funext q j
  unfold u2 clr
  by_cases h1 : q = 120 ∧ j = 48 * s + k
  · rw [if_pos h1, if_pos (by omega)]
  · rw [if_neg h1]
    by_cases h2 : q = 120 ∧ 48 * s ≤ j ∧ j < 48 * s + k
    · rw [if_pos h2, if_pos (by omega)]
    · rw [if_neg h2, if_neg (by omega)]
theorem clr_0 (V : MVal) (s : Nat) : clr V s 0 = V := by
  funext q j
  unfold clr
  rw [if_neg (by omega)]
def shZ (V : MVal) (s f n : Int) : Int := if fmN s f ∧ n ≤ 48 then (if n < 0 then -15 else n) else -2
def shW (V : MVal) (s f n : Int) : MVal := if fmN s f ∧ n ≤ 48 then (if n < 0 then u2 V 94 32 5 else clr (u2 (u2 (u2 V 117 s.toNat 1) 118 s.toNat f) 119 s.toNat n) s.toNat 48) else V
set_option maxHeartbeats 2000000 in
theorem sp_sheet {d : Nat} {M : MH} {V0 V : MVal} (hS : MS (msh M) (mrv M)) (hI : MI V0) (hP : PEq V0 V) {s f n : Int} (hs : inR s) (hf : inR f) (hn : inR n) : MVi mX7_sheet (d + 2) [vp 94, vi s, vi f, vi n] M V (fun z V' => z = shZ V0 s f n ∧ PEq (shW V0 s f n) V') := by
  refine mc_of (L := [vp 94, vi s, vi f, vi n, vu]) (by decide +kernel) (Nat.le_of_ble_eq_true rfl) rfl ?_
  have no : ¬ (fmN s f ∧ n ≤ 48) → MW mX7_sheet (d + 2) 22 [vp 94, vi s, vi f, vi n, vu] [] (sI M V) (Vi M (fun z V' => z = shZ V0 s f n ∧ PEq (shW V0 s f n) V')) := by
    intro g
    refine iX7_sheet_22 (iX7_sheet_24 ?_)
    exact ⟨V, rfl, by unfold shZ; rw [if_neg g], by unfold shW; rw [if_neg g]; exact hP⟩
  refine iX7_sheet_0 (jX7_sheet_1 (sp_X7_isSheet (by omega)) (iX7_sheet_4 bzR (fun h0 => have g1 := bz_eq h0; ?_) (fun h0 => have g1 := bz_ne h0; ?_)))
  · exact no (fun z => g1 z.1.1)
  refine iX7_sheet_7 (iX7_sheet_8 (iX7_sheet_9 (jX7_sheet_10 (sp_X7_in (by omega) (by omega) (by omega)) (iX7_sheet_13 bzR (fun h0 => have g2 := bz_eq h0; ?_) (fun h0 => have g2 := bz_ne h0; ?_)))))
  · exact no (fun z => g2 z.1.2)
  refine iX7_sheet_16 (iX7_sheet_17 (iX7_sheet_19 (by omega) (by omega) (fun g3 => ?_) (fun g3 => ?_)))
  rotate_left
  · exact no (fun z => g3 z.2)
  have c : fmN s f ∧ n ≤ 48 := ⟨⟨g1, g2⟩, g3⟩
  unfold shZ shW
  rw [if_pos c, if_pos c]
  refine iX7_sheet_25 (iX7_sheet_26 (by omega) (fun g4 => ?_) (fun g4 => ?_))
  rotate_left
  · refine iX7_sheet_29 (iX7_sheet_30 ?_)
    refine jX7_sheet_31 hS (sp_meets hS) ?_
    rintro z V1 ⟨rfl, rfl⟩
    refine iX7_sheet_34 ?_
    exact ⟨_, rfl, by rw [if_pos (by omega)]; rfl, by rw [if_pos (by omega)]; exact hP.wr _ _ _⟩
  rw [if_neg (by omega), if_neg (by omega)]
  obtain ⟨s, rfl⟩ := Int.eq_ofNat_of_zero_le g1.1
  rw [Int.toNat_natCast]
  refine iX7_sheet_35 (jX7_sheet_36 hS (iX7_sheet_39 (iX7_sheet_40 (jX7_sheet_41 hS ⟨by omega, by omega⟩ (by omega) (iX7_sheet_42 (jX7_sheet_43 hS (iX7_sheet_46 (iX7_sheet_47 (jX7_sheet_48 hS ⟨by omega, by omega⟩ (iX7_sheet_49 (jX7_sheet_50 hS (iX7_sheet_53 (iX7_sheet_54 (jX7_sheet_55 hS ⟨by omega, by omega⟩ (iX7_sheet_56 (iX7_sheet_57 ?_))))))))))))))))
  rw [Int.toNat_natCast]
  have loop : ∀ k2 k : Nat, ∀ W : MVal, k + k2 = 48 → PEq (clr (u2 (u2 (u2 V0 117 s 1) 118 s f) 119 s n) s k) W → MW mX7_sheet (d + 2) 59 [vp 94, vi s, vi f, vi n, vi k] [] (sI M W) (Vi M (fun z V' => z = n ∧ PEq (clr (u2 (u2 (u2 V0 117 s 1) 118 s f) 119 s n) s 48) V')) := by
    intro k2
    induction k2 with
    | zero =>
      intro k W h1 h2
      have : k = 48 := by omega
      subst this
      refine iX7_sheet_59 (iX7_sheet_61 (iX7_sheet_63 (by omega) (by omega) (fun g => ?_) (fun g => ?_)))
      · refine iX7_sheet_85 (iX7_sheet_86 ?_)
        exact ⟨W, rfl, rfl, h2⟩
      · omega
    | succ k2 ih =>
      intro k W h1 h2
      have t1 : (48 * (s : Int) + (k : Int)).toNat = 48 * s + k := by omega
      refine iX7_sheet_59 (iX7_sheet_61 (iX7_sheet_63 (by omega) (by omega) (fun g => ?_) (fun g => ?_)))
      · omega
      refine iX7_sheet_66 (jX7_sheet_67 hS (iX7_sheet_70 (iX7_sheet_72 (iX7_sheet_73 (iX7_sheet_74 (iX7_sheet_76 (iX7_sheet_77 (jX7_sheet_78 hS ⟨by omega, by omega⟩ (iX7_sheet_79 (iX7_sheet_82 ?_))))))))))
      rw [t1]
      refine ih (k + 1) _ (by omega) ?_
      rw [← clr_s]
      exact h2.wr _ _ _
  refine loop 48 0 _ rfl ?_
  rw [clr_0]
  exact ((hP.wr _ _ _).wr _ _ _).wr _ _ _
def lsZ (V : MVal) (s : Int) : Int := if shN s then (if V 117 s.toNat = 0 then -11 else V 119 s.toNat) else -2
def lsW (V : MVal) (s : Int) : MVal := if shN s then (if V 117 s.toNat = 0 then u2 V 94 32 1 else u2 V 117 s.toNat 0) else V
theorem sp_lose {d : Nat} {M : MH} {V0 V : MVal} (hS : MS (msh M) (mrv M)) (hI : MI V0) (hP : PEq V0 V) {s : Int} (hs : inR s) : MVi mX7_lose (d + 2) [vp 94, vi s] M V (fun z V' => z = lsZ V0 s ∧ PEq (lsW V0 s) V') := by
  refine mc_of (L := [vp 94, vi s]) (by decide +kernel) (Nat.le_of_ble_eq_true rfl) rfl ?_
  unfold lsZ lsW
  refine iX7_lose_0 (jX7_lose_1 (sp_X7_isSheet (by omega)) (iX7_lose_4 bzR (fun h0 => have g1 := bz_ne h0; ?_) (fun h0 => have g1 := bz_eq h0; ?_)))
  rotate_left
  · refine iX7_lose_7 (iX7_lose_9 ?_)
    exact ⟨V, rfl, by rw [if_neg g1], by rw [if_neg g1]; exact hP⟩
  rw [if_pos g1, if_pos g1]
  have e117 := hP.1 117 rfl
  have hh := hI.h s.toNat (by omega)
  refine iX7_lose_10 (jX7_lose_11 hS (iX7_lose_14 (jX7_lose_15 hS ⟨by omega, by omega⟩ ?_)))
  rw [e117]
  refine iX7_lose_16 (by omega) (fun g2 => ?_) (fun g2 => ?_)
  · rw [if_neg (by omega), if_neg (by omega)]
    refine iX7_lose_25 (jX7_lose_26 hS (iX7_lose_29 (iX7_lose_30 (jX7_lose_31 hS ⟨by omega, by omega⟩ (by omega) (iX7_lose_32 (jX7_lose_33 hS (iX7_lose_36 (jX7_lose_37 hS ⟨by omega, by omega⟩ (iX7_lose_38 ?_)))))))))
    exact ⟨_, rfl, by rw [u2_rd (by decide), hP.1 119 rfl], hP.wr _ _ _⟩
  · rw [if_pos (by omega), if_pos (by omega)]
    refine iX7_lose_19 (iX7_lose_20 ?_)
    refine jX7_lose_21 hS (sp_meets hS) ?_
    rintro z V1 ⟨rfl, rfl⟩
    refine iX7_lose_24 ?_
    exact ⟨_, rfl, rfl, hP.wr _ _ _⟩
def lck (V : MVal) (s f i : Int) : Int := if V 117 s.toNat = 0 then 1 else if V 118 s.toNat = f then (if 0 ≤ i ∧ i ≤ V 119 s.toNat - 1 then 0 else 2) else 3
theorem lck_rng (V : MVal) (s f i : Int) : 0 ≤ lck V s f i ∧ lck V s f i ≤ 3 := by
  unfold lck
  split
  · omega
  · split
    · split <;> omega
    · omega
theorem sp_lacks {d : Nat} {M : MH} {V0 V : MVal} (hS : MS (msh M) (mrv M)) (hI : MI V0) (hP : PEq V0 V) {s f i : Int} (hs : shN s) (hf : inR f) (hi : inR i) : MVi mX7_lacks (d + 1) [vp 94, vi s, vi f, vi i] M V (fun z V' => z = lck V0 s f i ∧ V = V') := by
  refine mc_of (L := [vp 94, vi s, vi f, vi i]) (by decide +kernel) (Nat.le_of_ble_eq_true rfl) rfl ?_
  have hh := hI.h s.toNat (by omega)
  have e117 := hP.1 117 rfl
  have e118 := hP.1 118 rfl
  have e119 := congrFun (hP.1 119 rfl) s.toNat
  unfold lck
  refine iX7_lacks_0 (jX7_lacks_1 hS (iX7_lacks_4 (jX7_lacks_5 hS ⟨by omega, by omega⟩ ?_)))
  rw [e117]
  refine iX7_lacks_6 (by omega) (fun g1 => ?_) (fun g1 => ?_)
  rotate_left
  · refine iX7_lacks_9 (iX7_lacks_10 (iX7_lacks_48 ?_))
    exact ⟨V, rfl, by rw [if_pos (by omega)], rfl⟩
  rw [if_neg (by omega)]
  refine iX7_lacks_13 (jX7_lacks_14 hS (iX7_lacks_17 (jX7_lacks_18 hS ⟨by omega, by omega⟩ ?_)))
  rw [e118]
  refine iX7_lacks_19 (iX7_lacks_20 (by omega) (by omega) (fun g2 => ?_) (fun g2 => ?_))
  rotate_left
  · refine iX7_lacks_23 (iX7_lacks_24 (iX7_lacks_48 ?_))
    exact ⟨V, rfl, by rw [if_neg (by omega)], rfl⟩
  rw [if_pos (by omega)]
  refine iX7_lacks_27 (iX7_lacks_28 (iX7_lacks_29 (jX7_lacks_30 hS (iX7_lacks_33 (jX7_lacks_34 hS ⟨by omega, by omega⟩ (iX7_lacks_35 (iX7_lacks_36 (jX7_lacks_37 (sp_X7_in (by omega) (by omega) (by omega)) (iX7_lacks_40 bzR (fun h0 => have g3 := bz_eq h0; ?_) (fun h0 => have g3 := bz_ne h0; ?_))))))))))
  · refine iX7_lacks_47 (iX7_lacks_48 ?_)
    exact ⟨V, rfl, by rw [if_neg (by omega)], rfl⟩
  · refine iX7_lacks_43 (iX7_lacks_44 (iX7_lacks_48 ?_))
    exact ⟨V, rfl, by rw [if_pos (by omega)], rfl⟩
/-- what a sheet of the form f keeps of v -/
def cvt (f v : Int) : Int := if f = 0 then v.bmod 256 else if f = 1 then v.bmod 65536 else v
theorem sp_keep {d : Nat} {M : MH} {V0 V : MVal} (hS : MS (msh M) (mrv M)) (hI : MI V0) (h118 : V 118 = V0 118) {s : Nat} {i v : Int} (hs : s < 4) (hi : 0 ≤ i ∧ i < 48) : MVv mX7_keep d [vp 94, vi s, vi i, vi v] M V (fun V' => u2 V 120 (48 * s + i.toNat) (cvt (V0 118 s) v) = V') := by
  refine mc_of (L := [vp 94, vi s, vi i, vi v]) (by decide +kernel) (Nat.le_of_ble_eq_true rfl) rfl ?_
  have hh := hI.h s hs
  have t1 : (48 * (s : Int) + i).toNat = 48 * s + i.toNat := by omega
  have fin : ∀ x : Int, x = cvt (V0 118 s) v → MW mX7_keep d 40 [vp 94, vi s, vi i, vi v] [vi x, vi (48 * (s : Int) + i), vp 120] (sI M V) (Vv M (fun V' => u2 V 120 (48 * s + i.toNat) (cvt (V0 118 s) v) = V')) := by
    rintro x rfl
    refine jX7_keep_40 hS ⟨by omega, by omega⟩ (iX7_keep_41 ?_)
    exact ⟨_, rfl, by rw [t1]⟩
  refine iX7_keep_0 (jX7_keep_1 hS (iX7_keep_4 (iX7_keep_6 (iX7_keep_7 (iX7_keep_8 (iX7_keep_9 (iX7_keep_10 (jX7_keep_11 hS (iX7_keep_14 (jX7_keep_15 hS ⟨by omega, by omega⟩ ?_))))))))))
  rw [Int.toNat_natCast, h118]
  refine iX7_keep_16 (by omega) (fun g1 => ?_) (fun g1 => ?_)
  rotate_left
  · refine iX7_keep_19 (iX7_keep_20 (iX7_keep_21 ?_))
    exact fin _ (by unfold cvt; rw [if_pos (by omega)])
  refine iX7_keep_24 (jX7_keep_25 hS (iX7_keep_28 (jX7_keep_29 hS ⟨by omega, by omega⟩ ?_)))
  rw [Int.toNat_natCast, h118]
  refine iX7_keep_30 (iX7_keep_31 (by omega) (by omega) (fun g2 => ?_) (fun g2 => ?_))
  · refine iX7_keep_39 ?_
    exact fin _ (by unfold cvt; rw [if_neg (by omega), if_neg (by omega)])
  · refine iX7_keep_34 (iX7_keep_35 (iX7_keep_36 ?_))
    exact fin _ (by unfold cvt; rw [if_neg (by omega), if_pos (by omega)])
def ptZ (V : MVal) (s f i v : Int) : Int := if fmN s f then (if 0 < lck V s f i then -10 - lck V s f i else 1) else -2
def ptW (V : MVal) (s f i v : Int) : MVal := if fmN s f then (if 0 < lck V s f i then u2 V 94 32 (lck V s f i) else u2 V 120 (48 * s.toNat + i.toNat) (cvt (V 118 s.toNat) v)) else V
theorem lck_0 {V : MVal} {s f i : Int} (h : ¬ 0 < lck V s f i) : 0 ≤ i ∧ i ≤ V 119 s.toNat - 1 := by
  unfold lck at h
  split at h
  · omega
  · split at h
    · split at h
      · assumption
      · omega
    · omega
theorem sp_put {d : Nat} {M : MH} {V0 V : MVal} (hS : MS (msh M) (mrv M)) (hI : MI V0) (hP : PEq V0 V) {s f i v : Int} (hs : inR s) (hf : inR f) (hi : inR i) (hv : inR v) : MVi mX7_put (d + 2) [vp 94, vi s, vi f, vi i, vi v] M V (fun z V' => z = ptZ V0 s f i v ∧ PEq (ptW V0 s f i v) V') := by
  refine mc_of (L := [vp 94, vi s, vi f, vi i, vi v, vu]) (by decide +kernel) (Nat.le_of_ble_eq_true rfl) rfl ?_
  have no : ¬ fmN s f → MW mX7_put (d + 2) 16 [vp 94, vi s, vi f, vi i, vi v, vu] [] (sI M V) (Vi M (fun z V' => z = ptZ V0 s f i v ∧ PEq (ptW V0 s f i v) V')) := by
    intro g
    refine iX7_put_16 (iX7_put_18 ?_)
    exact ⟨V, rfl, by unfold ptZ; rw [if_neg g], by unfold ptW; rw [if_neg g]; exact hP⟩
  refine iX7_put_0 (jX7_put_1 (sp_X7_isSheet (by omega)) (iX7_put_4 bzR (fun h0 => have g1 := bz_eq h0; ?_) (fun h0 => have g1 := bz_ne h0; ?_)))
  · exact no (fun z => g1 z.1)
  refine iX7_put_7 (iX7_put_8 (iX7_put_9 (jX7_put_10 (sp_X7_in (by omega) (by omega) (by omega)) (iX7_put_13 bzR (fun h0 => have g2 := bz_ne h0; ?_) (fun h0 => have g2 := bz_eq h0; ?_)))))
  rotate_left
  · exact no (fun z => g2 z.2)
  have c : fmN s f := ⟨g1, g2⟩
  unfold ptZ ptW
  rw [if_pos c, if_pos c]
  refine iX7_put_19 (iX7_put_20 (iX7_put_21 (iX7_put_22 ?_)))
  refine jX7_put_23 hS (sp_lacks hS hI hP g1 hf hi) ?_
  rintro z V1 ⟨rfl, rfl⟩
  have lr := lck_rng V0 s f i
  refine iX7_put_26 (iX7_put_28 (iX7_put_30 (by omega) (fun g3 => ?_) (fun g3 => ?_)))
  · rw [if_neg (by omega), if_neg (by omega)]
    have := lck_0 (V := V0) (s := s) (f := f) (i := i) (by omega)
    have hh := hI.h s.toNat (by omega)
    obtain ⟨s, rfl⟩ := Int.eq_ofNat_of_zero_le g1.1
    refine iX7_put_40 (iX7_put_41 (iX7_put_42 (iX7_put_43 ?_)))
    refine jX7_put_45 hS (sp_keep hS hI (hP.1 118 rfl) (s := s) (v := v) (by omega) (by omega)) ?_
    rintro V1 rfl
    refine iX7_put_48 (iX7_put_49 ?_)
    exact ⟨_, rfl, rfl, hP.wr _ _ _⟩
  · rw [if_pos (by omega), if_pos (by omega)]
    refine iX7_put_33 (iX7_put_34 ?_)
    refine jX7_put_36 hS (sp_meets hS) ?_
    rintro z V1 ⟨rfl, rfl⟩
    refine iX7_put_39 ?_
    exact ⟨_, rfl, rfl, hP.wr _ _ _⟩
def gtZ (V : MVal) (s f i : Int) : Int := if fmN s f then (if 0 < lck V s f i then -2147483648 else V 120 (48 * s + i).toNat) else -2147483648
def gtW (V : MVal) (s f i : Int) : MVal := if fmN s f then (if 0 < lck V s f i then u2 V 94 32 (lck V s f i) else V) else V
theorem sp_get {d : Nat} {M : MH} {V0 V : MVal} (hS : MS (msh M) (mrv M)) (hI : MI V0) (hP : PEq V0 V) {s f i : Int} (hs : inR s) (hf : inR f) (hi : inR i) : MVi mX7_get (d + 2) [vp 94, vi s, vi f, vi i] M V (fun z V' => z = gtZ V0 s f i ∧ PEq (gtW V0 s f i) V') := by
  refine mc_of (L := [vp 94, vi s, vi f, vi i, vu]) (by decide +kernel) (Nat.le_of_ble_eq_true rfl) rfl ?_
  have no : ¬ fmN s f → MW mX7_get (d + 2) 16 [vp 94, vi s, vi f, vi i, vu] [] (sI M V) (Vi M (fun z V' => z = gtZ V0 s f i ∧ PEq (gtW V0 s f i) V')) := by
    intro g
    refine iX7_get_16 (iX7_get_18 ?_)
    exact ⟨V, rfl, by unfold gtZ; rw [if_neg g], by unfold gtW; rw [if_neg g]; exact hP⟩
  refine iX7_get_0 (jX7_get_1 (sp_X7_isSheet (by omega)) (iX7_get_4 bzR (fun h0 => have g1 := bz_eq h0; ?_) (fun h0 => have g1 := bz_ne h0; ?_)))
  · exact no (fun z => g1 z.1)
  refine iX7_get_7 (iX7_get_8 (iX7_get_9 (jX7_get_10 (sp_X7_in (by omega) (by omega) (by omega)) (iX7_get_13 bzR (fun h0 => have g2 := bz_ne h0; ?_) (fun h0 => have g2 := bz_eq h0; ?_)))))
  rotate_left
  · exact no (fun z => g2 z.2)
  have c : fmN s f := ⟨g1, g2⟩
  unfold gtZ gtW
  rw [if_pos c, if_pos c]
  refine iX7_get_19 (iX7_get_20 (iX7_get_21 (iX7_get_22 ?_)))
  refine jX7_get_23 hS (sp_lacks hS hI hP g1 hf hi) ?_
  rintro z V1 ⟨rfl, rfl⟩
  have lr := lck_rng V0 s f i
  refine iX7_get_26 (iX7_get_28 (iX7_get_30 (by omega) (fun g3 => ?_) (fun g3 => ?_)))
  · rw [if_neg (by omega), if_neg (by omega)]
    have := lck_0 (V := V0) (s := s) (f := f) (i := i) (by omega)
    have hh := hI.h s.toNat (by omega)
    refine iX7_get_42 (jX7_get_43 hS (iX7_get_46 (iX7_get_48 (iX7_get_49 (iX7_get_50 (iX7_get_51 (jX7_get_52 hS ⟨by omega, by omega⟩ (iX7_get_53 ?_))))))))
    exact ⟨_, rfl, by rw [hP.1 120 rfl], hP⟩
  · rw [if_pos (by omega), if_pos (by omega)]
    refine iX7_get_33 (iX7_get_34 (jX7_get_36 hS (iX7_get_39 (iX7_get_41 ?_))))
    exact ⟨_, rfl, rfl, hP.wr _ _ _⟩
/-! copies -/
/-- k items from a on, told by the row g, laid at b -/
def cpy (V : MVal) (g : Nat → Int) (b k : Nat) : MVal := fun q x => if q = 120 ∧ b ≤ x ∧ x < b + k then g (x - b) else V q x
theorem cpy_s (V : MVal) (g : Nat → Int) (b k : Nat) : u2 (cpy V g b k) 120 (b + k) (g k) = cpy V g b (k + 1) := by
  funext q j
  unfold u2 cpy
  by_cases h1 : q = 120 ∧ j = b + k
  · rw [if_pos h1, if_pos (by omega), show j - b = k by omega]
  · rw [if_neg h1]
    by_cases h2 : q = 120 ∧ b ≤ j ∧ j < b + k
    · rw [if_pos h2, if_pos (by omega)]
    · rw [if_neg h2, if_neg (by omega)]
theorem cpy_0 (V : MVal) (g : Nat → Int) (b : Nat) : cpy V g b 0 = V := by
  funext q j
  unfold cpy
  rw [if_neg (by omega)]
abbrev cpI (V : MVal) (s i t j n : Int) : Prop := i < 0 ∨ j < 0 ∨ n < 0 ∨ V 119 s.toNat < i + n ∨ V 119 t.toNat < j + n
def cpF (V : MVal) (s i t j n : Int) : Int := if V 117 s.toNat = 0 ∨ V 117 t.toNat = 0 then 1 else if V 118 s.toNat = V 118 t.toNat then (if cpI V s i t j n then 2 else 0) else 4
def cpZ (V : MVal) (s i t j n : Int) : Int := if shN s ∧ shN t then (if 0 < cpF V s i t j n then -10 - cpF V s i t j n else 1) else -2
def cpW (V : MVal) (s i t j n : Int) : MVal := if shN s ∧ shN t then (if 0 < cpF V s i t j n then u2 V 94 32 (cpF V s i t j n) else cpy V (fun k => V 120 (48 * s.toNat + i.toNat + k)) (48 * t.toNat + j.toNat) n.toNat) else V
set_option maxHeartbeats 8000000 in
theorem sp_copy {d : Nat} {M : MH} {V0 V : MVal} (hS : MS (msh M) (mrv M)) (hI : MI V0) (hP : PEq V0 V) {s i t j n : Int} (hs : inR s) (hi : inR i) (ht : inR t) (hj : inR j) (hn : inR n) : MVi mX7_copy (d + 2) [vp 94, vi s, vi i, vi t, vi j, vi n] M V (fun z V' => z = cpZ V0 s i t j n ∧ PEq (cpW V0 s i t j n) V') := by
  refine mc_of (L := [vp 94, vi s, vi i, vi t, vi j, vi n, vu]) (by decide +kernel) (Nat.le_of_ble_eq_true rfl) rfl ?_
  have no : ¬ (shN s ∧ shN t) → MW mX7_copy (d + 2) 14 [vp 94, vi s, vi i, vi t, vi j, vi n, vu] [] (sI M V) (Vi M (fun z V' => z = cpZ V0 s i t j n ∧ PEq (cpW V0 s i t j n) V')) := by
    intro g
    refine iX7_copy_14 (iX7_copy_16 ?_)
    exact ⟨V, rfl, by unfold cpZ; rw [if_neg g], by unfold cpW; rw [if_neg g]; exact hP⟩
  refine iX7_copy_0 (jX7_copy_1 (sp_X7_isSheet (by omega)) (iX7_copy_4 bzR (fun h0 => have g1 := bz_eq h0; ?_) (fun h0 => have g1 := bz_ne h0; ?_)))
  · exact no (fun z => g1 z.1)
  refine iX7_copy_7 (jX7_copy_8 (sp_X7_isSheet (by omega)) (iX7_copy_11 bzR (fun h0 => have g2 := bz_ne h0; ?_) (fun h0 => have g2 := bz_eq h0; ?_)))
  rotate_left
  · exact no (fun z => g2 z.2)
  have c : shN s ∧ shN t := ⟨g1, g2⟩
  unfold cpZ cpW
  rw [if_pos c, if_pos c]
  clear c
  obtain ⟨s, rfl⟩ := Int.eq_ofNat_of_zero_le g1.1
  obtain ⟨t, rfl⟩ := Int.eq_ofNat_of_zero_le g2.1
  have hh := hI.h s (by omega)
  have hh2 := hI.h t (by omega)
  have e117 := hP.1 117 rfl
  have e118 := hP.1 118 rfl
  have e119 := hP.1 119 rfl
  have cF : cpF V0 s i t j n = if V0 117 s = 0 ∨ V0 117 t = 0 then 1 else if V0 118 s = V0 118 t then (if cpI V0 s i t j n then 2 else 0) else 4 := rfl
  have cI : cpI V0 s i t j n ↔ (i < 0 ∨ j < 0 ∨ n < 0 ∨ V0 119 s < i + n ∨ V0 119 t < j + n) := Iff.rfl
  have bad : ∀ k : Int, cpF V0 s i t j n = k → 0 < k → ∀ m, MW mX7_copy (d + 2) m [vp 94, vi s, vi i, vi t, vi j, vi n, vu] [] (sI M V) (Vi M (fun z V' => z = -10 - k ∧ PEq (u2 V0 94 32 k) V')) → MW mX7_copy (d + 2) m [vp 94, vi s, vi i, vi t, vi j, vi n, vu] [] (sI M V) (Vi M (fun z V' => z = (if 0 < cpF V0 s i t j n then -10 - cpF V0 s i t j n else 1) ∧ PEq (if 0 < cpF V0 s i t j n then u2 V0 94 32 (cpF V0 s i t j n) else cpy V0 (fun k => V0 120 (48 * ((s : Int)).toNat + i.toNat + k)) (48 * ((t : Int)).toNat + j.toNat) n.toNat) V')) := by
    rintro k rfl hk m h
    rw [if_pos hk, if_pos hk]
    exact h
  have b1 : (V0 117 s = 0 ∨ V0 117 t = 0) → MW mX7_copy (d + 2) 35 [vp 94, vi s, vi i, vi t, vi j, vi n, vu] [] (sI M V) (Vi M (fun z V' => z = (if 0 < cpF V0 s i t j n then -10 - cpF V0 s i t j n else 1) ∧ PEq (if 0 < cpF V0 s i t j n then u2 V0 94 32 (cpF V0 s i t j n) else cpy V0 (fun k => V0 120 (48 * ((s : Int)).toNat + i.toNat + k)) (48 * ((t : Int)).toNat + j.toNat) n.toNat) V')) := by
    intro c
    refine bad 1 (by rw [cF, if_pos c]) (by decide) 35 ?_
    refine iX7_copy_35 (iX7_copy_36 ?_)
    refine jX7_copy_37 hS (sp_meets hS) ?_
    rintro z V1 ⟨rfl, rfl⟩
    refine iX7_copy_40 ?_
    exact ⟨_, rfl, rfl, hP.wr _ _ _⟩
  refine iX7_copy_17 (jX7_copy_18 hS (iX7_copy_21 (jX7_copy_22 hS ⟨by omega, by omega⟩ ?_)))
  rw [Int.toNat_natCast, e117]
  refine iX7_copy_23 (by omega) (fun g3 => ?_) (fun g3 => ?_)
  · exact b1 (Or.inl g3)
  refine iX7_copy_26 (jX7_copy_27 hS (iX7_copy_30 (jX7_copy_31 hS ⟨by omega, by omega⟩ ?_)))
  rw [Int.toNat_natCast, e117]
  refine iX7_copy_32 (by omega) (fun g4 => ?_) (fun g4 => ?_)
  rotate_left
  · exact b1 (Or.inr (by omega))
  rw [if_neg (by omega)] at cF
  refine iX7_copy_41 (jX7_copy_42 hS (iX7_copy_45 (jX7_copy_46 hS ⟨by omega, by omega⟩ ?_)))
  rw [Int.toNat_natCast, e118]
  refine iX7_copy_47 (jX7_copy_48 hS (iX7_copy_51 (jX7_copy_52 hS ⟨by omega, by omega⟩ ?_)))
  rw [Int.toNat_natCast, e118]
  refine iX7_copy_53 (by omega) (by omega) (fun g5 => ?_) (fun g5 => ?_)
  rotate_left
  · refine bad 4 (by rw [cF, if_neg (by omega)]) (by decide) 56 ?_
    refine iX7_copy_56 (iX7_copy_57 ?_)
    refine jX7_copy_58 hS (sp_meets hS) ?_
    rintro z V1 ⟨rfl, rfl⟩
    refine iX7_copy_61 ?_
    exact ⟨_, rfl, rfl, hP.wr _ _ _⟩
  rw [if_pos (by omega)] at cF
  have b2 : (i < 0 ∨ j < 0 ∨ n < 0 ∨ V0 119 s < i + n ∨ V0 119 t < j + n) → MW mX7_copy (d + 2) 111 [vp 94, vi s, vi i, vi t, vi j, vi n, vu] [] (sI M V) (Vi M (fun z V' => z = (if 0 < cpF V0 s i t j n then -10 - cpF V0 s i t j n else 1) ∧ PEq (if 0 < cpF V0 s i t j n then u2 V0 94 32 (cpF V0 s i t j n) else cpy V0 (fun k => V0 120 (48 * ((s : Int)).toNat + i.toNat + k)) (48 * ((t : Int)).toNat + j.toNat) n.toNat) V')) := by
    intro c
    refine bad 2 (by rw [cF, if_pos (cI.mpr c)]) (by decide) 111 ?_
    refine iX7_copy_111 (iX7_copy_112 ?_)
    refine jX7_copy_113 hS (sp_meets hS) ?_
    rintro z V1 ⟨rfl, rfl⟩
    refine iX7_copy_116 ?_
    exact ⟨_, rfl, rfl, hP.wr _ _ _⟩
  refine iX7_copy_62 (iX7_copy_63 (by omega) (fun g6 => ?_) (fun g6 => ?_))
  · exact b2 (Or.inl g6)
  refine iX7_copy_66 (iX7_copy_68 (by omega) (fun g7 => ?_) (fun g7 => ?_))
  · exact b2 (Or.inr (Or.inl g7))
  refine iX7_copy_71 (iX7_copy_73 (by omega) (fun g8 => ?_) (fun g8 => ?_))
  · exact b2 (Or.inr (Or.inr (Or.inl g8)))
  refine iX7_copy_76 (iX7_copy_77 (by omega) (iX7_copy_78 (iX7_copy_80 (by omega) (iX7_copy_81 (iX7_copy_82 (jX7_copy_83 hS (iX7_copy_86 (jX7_copy_87 hS ⟨by omega, by omega⟩ ?_))))))))
  rw [Int.toNat_natCast, e119]
  refine iX7_copy_88 (by omega) ?_
  refine kX7_copy_89 (by omega) (by omega) ?_
  have l1 := lcmR (i + n) (V0 119 s)
  refine iX7_copy_90 (by omega) (fun g9 => ?_) (fun g9 => ?_)
  · exact b2 (by omega)
  refine iX7_copy_93 (iX7_copy_95 (by omega) (iX7_copy_96 (iX7_copy_98 (by omega) (iX7_copy_99 (iX7_copy_100 (jX7_copy_101 hS (iX7_copy_104 (jX7_copy_105 hS ⟨by omega, by omega⟩ ?_))))))))
  rw [Int.toNat_natCast, e119]
  refine iX7_copy_106 (by omega) ?_
  refine kX7_copy_107 (by omega) (by omega) ?_
  have l2 := lcmR (j + n) (V0 119 t)
  refine iX7_copy_108 (by omega) (fun ga => ?_) (fun ga => ?_)
  rotate_left
  · exact b2 (by omega)
  have nc : ¬ cpI V0 s i t j n := fun z => by have := cI.mp z; omega
  rw [if_neg nc] at cF
  rw [if_neg (by omega), if_neg (by omega)]
  obtain ⟨i, rfl⟩ := Int.eq_ofNat_of_zero_le (show 0 ≤ i by omega)
  obtain ⟨j, rfl⟩ := Int.eq_ofNat_of_zero_le (show 0 ≤ j by omega)
  obtain ⟨n, rfl⟩ := Int.eq_ofNat_of_zero_le (show 0 ≤ n by omega)
  simp only [Int.toNat_natCast]
  have lp2 : ∀ f k : Nat, ∀ W : MVal, k + f = n → PEq (cpy V0 (fun k => V0 120 (48 * s + i + k)) (48 * t + j) k) W → (∀ x, x < n → W 121 x = V0 120 (48 * s + i + x)) → MW mX7_copy (d + 2) 157 [vp 94, vi s, vi i, vi t, vi j, vi n, vi k] [] (sI M W) (Vi M (fun z V' => z = 1 ∧ PEq (cpy V0 (fun k => V0 120 (48 * s + i + k)) (48 * t + j) n) V')) := by
    intro f
    induction f with
    | zero =>
      intro k W h1 h2 h3
      have : k = n := by omega
      subst this
      refine iX7_copy_157 (iX7_copy_159 (iX7_copy_161 (by omega) (by omega) (fun gg => ?_) (fun gg => ?_)))
      · refine iX7_copy_192 (iX7_copy_193 ?_)
        exact ⟨W, rfl, rfl, h2⟩
      · omega
    | succ f ih =>
      intro k W h1 h2 h3
      have t1 : (48 * (t : Int) + (j : Int) + (k : Int)).toNat = 48 * t + j + k := by omega
      refine iX7_copy_157 (iX7_copy_159 (iX7_copy_161 (by omega) (by omega) (fun gg => ?_) (fun gg => ?_)))
      · omega
      refine iX7_copy_164 (jX7_copy_165 hS (iX7_copy_168 (iX7_copy_170 (iX7_copy_171 (iX7_copy_172 (iX7_copy_174 (iX7_copy_175 (iX7_copy_177 (iX7_copy_178 (jX7_copy_179 hS (iX7_copy_182 (jX7_copy_184 hS ⟨by omega, by omega⟩ ?_))))))))))))
      rw [Int.toNat_natCast, h3 k (by omega)]
      refine jX7_copy_185 hS ⟨by omega, by omega⟩ (iX7_copy_186 (iX7_copy_189 ?_))
      rw [t1]
      refine ih (k + 1) _ (by omega) ?_ (fun x hx => by rw [u2_ne (by decide)]; exact h3 x hx)
      rw [← cpy_s]
      exact h2.wr _ _ _
  have lp1 : ∀ f k : Nat, ∀ W : MVal, k + f = n → PEq V0 W → (∀ x, x < k → W 121 x = V0 120 (48 * s + i + x)) → MW mX7_copy (d + 2) 120 [vp 94, vi s, vi i, vi t, vi j, vi n, vi k] [] (sI M W) (Vi M (fun z V' => z = 1 ∧ PEq (cpy V0 (fun k => V0 120 (48 * s + i + k)) (48 * t + j) n) V')) := by
    intro f
    induction f with
    | zero =>
      intro k W h1 h2 h3
      have : k = n := by omega
      subst this
      refine iX7_copy_120 (iX7_copy_122 (iX7_copy_124 (by omega) (by omega) (fun gg => ?_) (fun gg => ?_)))
      · refine iX7_copy_154 (iX7_copy_155 ?_)
        exact lp2 k 0 W (by omega) (by rw [cpy_0]; exact h2) h3
      · omega
    | succ f ih =>
      intro k W h1 h2 h3
      have t1 : (48 * (s : Int) + (i : Int) + (k : Int)).toNat = 48 * s + i + k := by omega
      refine iX7_copy_120 (iX7_copy_122 (iX7_copy_124 (by omega) (by omega) (fun gg => ?_) (fun gg => ?_)))
      · omega
      refine iX7_copy_127 (jX7_copy_128 hS (iX7_copy_131 (iX7_copy_133 (jX7_copy_134 hS (iX7_copy_137 (iX7_copy_139 (iX7_copy_140 (iX7_copy_141 (iX7_copy_142 (iX7_copy_143 (iX7_copy_145 (jX7_copy_146 hS ⟨by omega, by omega⟩ ?_))))))))))))
      rw [t1, h2.1 120 rfl]
      refine jX7_copy_147 hS ⟨by omega, by omega⟩ (iX7_copy_148 (iX7_copy_151 ?_))
      rw [Int.toNat_natCast]
      refine ih (k + 1) _ (by omega) (h2.scr rfl (by decide)) (fun x hx => ?_)
      by_cases e : x = k
      · subst e; rw [u2_at]
      · rw [u2_off e]; exact h3 x (by omega)
  refine iX7_copy_117 (iX7_copy_118 ?_)
  exact lp1 n 0 V (by omega) hP (fun x hx => absurd hx (by omega))
/-! what is written -/
noncomputable def wrF (V : MVal) (s : Nat) : Nat → MVal
  | 0 => V
  | k + 1 => u2 (wrF V s k) 120 (48 * s + k) (cvt (V 118 s) ((runS V (pl V)).2.1 k))
def wrN (V : MVal) (s : Nat) : Nat := min (V 119 s).toNat (nP V)
noncomputable def wrZ (V : MVal) (s : Int) : Int := if shN s then (if V 117 s.toNat = 0 then -11 else (wrN V s.toNat : Int)) else -2
noncomputable def wrW (V : MVal) (s : Int) : MVal := if shN s then (if V 117 s.toNat = 0 then u2 V 94 32 1 else wrF V s.toNat (wrN V s.toNat)) else V
theorem wrF_q {V : MVal} {s q : Nat} (h : q ≠ 120) : ∀ k, wrF V s k q = V q
  | 0 => rfl
  | k + 1 => by
    show u2 (wrF V s k) _ _ _ q = V q
    rw [u2_ne h]; exact wrF_q h k
set_option maxHeartbeats 4000000 in
theorem sp_write {d : Nat} {M : MH} {V0 V : MVal} (hS : MS (msh M) (mrv M)) (hI : MI V0) (hP : PEq V0 V) {s : Int} (hs : inR s) : MVi mX7_write (d + 4) [vp 94, vi s] M V (fun z V' => z = wrZ V0 s ∧ PEq (wrW V0 s) V') := by
  refine mc_of (L := [vp 94, vi s, vu]) (by decide +kernel) (Nat.le_of_ble_eq_true rfl) rfl ?_
  have n8 := nP_le V0
  unfold wrZ wrW
  refine iX7_write_0 (jX7_write_1 (sp_X7_isSheet (by omega)) (iX7_write_4 bzR (fun h0 => have g1 := bz_ne h0; ?_) (fun h0 => have g1 := bz_eq h0; ?_)))
  rotate_left
  · refine iX7_write_7 (iX7_write_9 ?_)
    exact ⟨V, rfl, by rw [if_neg g1], by rw [if_neg g1]; exact hP⟩
  rw [if_pos g1, if_pos g1]
  obtain ⟨s, rfl⟩ := Int.eq_ofNat_of_zero_le g1.1
  have e117 := hP.1 117 rfl
  have hh := hI.h s (by omega)
  simp only [Int.toNat_natCast]
  refine iX7_write_10 (jX7_write_11 hS (iX7_write_14 (jX7_write_15 hS ⟨by omega, by omega⟩ ?_)))
  rw [Int.toNat_natCast, e117]
  refine iX7_write_16 (by omega) (fun g2 => ?_) (fun g2 => ?_)
  rotate_left
  · rw [if_pos (by omega), if_pos (by omega)]
    refine iX7_write_19 (iX7_write_20 ?_)
    refine jX7_write_21 hS (sp_meets hS) ?_
    rintro z V1 ⟨rfl, rfl⟩
    refine iX7_write_24 ?_
    exact ⟨_, rfl, rfl, hP.wr _ _ _⟩
  rw [if_neg (by omega), if_neg (by omega)]
  refine iX7_write_25 (iX7_write_26 (jX7_write_27 hS ?_))
  rw [hP.2.1]
  refine jX7_write_30 hS (sp_lays hS hI hP hI.s) ?_
  intro V1 h1
  refine iX7_write_33 (iX7_write_34 ?_)
  have hw : wrN V0 s = min (V0 119 s).toNat (nP V0) := rfl
  have loop : ∀ f k : Nat, ∀ W : MVal, k + f = wrN V0 s → PEq (wrF V0 s k) W → W 94 5 = nP V0 → (∀ p, p < nP V0 → W 106 p = (runS V0 (pl V0)).2.1 p) → MW mX7_write (d + 4) 35 [vp 94, vi s, vi k] [] (sI M W) (Vi M (fun z V' => z = (wrN V0 s : Int) ∧ PEq (wrF V0 s (wrN V0 s)) V')) := by
    intro f
    induction f with
    | zero =>
      intro k W h1 h2 h3 h4
      have : k = wrN V0 s := by omega
      subst this
      have e119 : W 119 = V0 119 := by rw [h2.1 119 rfl, wrF_q (by decide)]
      refine iX7_write_35 (iX7_write_36 (jX7_write_37 hS (iX7_write_40 (jX7_write_41 hS ⟨by omega, by omega⟩ ?_))))
      rw [Int.toNat_natCast, e119]
      refine iX7_write_42 (by omega) (by omega) (fun g3 => ?_) (fun g3 => ?_)
      · refine iX7_write_71 (iX7_write_72 ?_)
        exact ⟨W, rfl, rfl, h2⟩
      refine iX7_write_45 (iX7_write_46 (jX7_write_47 hS (iX7_write_50 (by omega) (by omega) (fun g4 => ?_) (fun g4 => ?_))))
      · refine iX7_write_71 (iX7_write_72 ?_)
        exact ⟨W, rfl, rfl, h2⟩
      · omega
    | succ f ih =>
      intro k W h1 h2 h3 h4
      have e119 : W 119 = V0 119 := by rw [h2.1 119 rfl, wrF_q (by decide)]
      have e118 : W 118 = V0 118 := by rw [h2.1 118 rfl, wrF_q (by decide)]
      refine iX7_write_35 (iX7_write_36 (jX7_write_37 hS (iX7_write_40 (jX7_write_41 hS ⟨by omega, by omega⟩ ?_))))
      rw [Int.toNat_natCast, e119]
      refine iX7_write_42 (by omega) (by omega) (fun g3 => ?_) (fun g3 => ?_)
      · omega
      refine iX7_write_45 (iX7_write_46 (jX7_write_47 hS (iX7_write_50 (by omega) (by omega) (fun g4 => ?_) (fun g4 => ?_))))
      · omega
      refine iX7_write_53 (iX7_write_54 (iX7_write_55 (iX7_write_56 (jX7_write_57 hS (iX7_write_60 (jX7_write_61 hS ⟨by omega, by omega⟩ ?_))))))
      rw [Int.toNat_natCast, h4 k (by omega)]
      refine jX7_write_62 hS (sp_keep hS hI e118 (s := s) (i := k) (by omega) (by omega)) ?_
      rintro W2 rfl
      refine iX7_write_65 (iX7_write_68 ?_)
      rw [Int.toNat_natCast]
      exact ih (k + 1) _ (by omega) (h2.wr _ _ _) (by rw [u2_ne (by decide)]; exact h3) (fun p hp => by rw [u2_ne (by decide)]; exact h4 p hp)
  exact loop (wrN V0 s) 0 V1 (by omega) h1.1.1 h1.1.2.2.1 (fun p hp => (h1.2.1.2.2.2.2.2 p hp).1)
