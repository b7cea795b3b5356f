/-! bits -/
theorem i32_nat (n : Nat) : Int32.ofInt (n : Int) = nI n := Int32.ofInt_eq_ofNat
theorem s_l32 : ∀ n, n < 32 → ((nI n &&& 31).toBitVec.smod 32).toNat = n := by decide +kernel
theorem bor_nat {a b : Nat} (ha : a < 2 ^ 31) (hb : b < 2 ^ 31) : bor a b = ((a ||| b : Nat) : Int) := by
  have e : nI a ||| nI b = nI (a ||| b) := Int32.toBitVec.inj (by show BitVec.ofNat 32 a ||| BitVec.ofNat 32 b = BitVec.ofNat 32 (a ||| b); rw [BitVec.ofNat_or])
  unfold bor
  rw [i32_nat, i32_nat, e, nI_toInt (Nat.or_lt_two_pow ha hb)]
theorem band_nat {a b : Nat} (ha : a < 2 ^ 31) : band a b = ((a &&& b : Nat) : Int) := by
  have e : nI a &&& nI b = nI (a &&& b) := Int32.toBitVec.inj (by show BitVec.ofNat 32 a &&& BitVec.ofNat 32 b = BitVec.ofNat 32 (a &&& b); rw [BitVec.ofNat_and])
  unfold band
  rw [i32_nat, i32_nat, e, nI_toInt (Nat.lt_of_le_of_lt Nat.and_le_left ha)]
theorem bshl_nat {a k : Nat} (hk : k < 32) (h : a * 2 ^ k < 2 ^ 31) : bshl a k = ((a * 2 ^ k : Nat) : Int) := by
  have e : nI k &&& 31 = nI k &&& 31 := rfl
  unfold bshl
  rw [i32_nat, i32_nat, pk_shlN _ k (s_l32 k hk) (by omega), nI_toInt h]
theorem bshr_nat {a k : Nat} (ha : a < 2 ^ 31) (hk : k < 32) : bshr a k = ((a / 2 ^ k : Nat) : Int) := by
  unfold bshr
  rw [i32_nat, i32_nat, pk_shrN ha _ k (s_l32 k hk), nI_toInt (Nat.lt_of_le_of_lt (Nat.div_le_self _ _) ha)]
theorem bit_at {a k : Nat} (ha : a < 2 ^ 31) (hk : k < 32) : band (bshr a k) 1 = ((a / 2 ^ k % 2 : Nat) : Int) := by
  rw [bshr_nat ha hk]
  have := band_nat (a := a / 2 ^ k) (b := 1) (Nat.lt_of_le_of_lt (Nat.div_le_self _ _) ha)
  rw [show ((1 : Nat) : Int) = 1 from rfl] at this
  rw [this, Nat.and_one_is_mod]
theorem sp_X7_isIn {d a k : Nat} (ha : a < 2 ^ 31) (hk : k < 32) : MCp mX7_isIn d [vi a, vi k] (bz (a.testBit k = true)) := by
  intro M
  refine mc_of (L := [vi a, vi k]) (by decide +kernel) (Nat.le_of_ble_eq_true rfl) rfl ?_
  have e := bit_at ha hk
  have e2 : a / 2 ^ k % 2 < 2 := Nat.mod_lt _ (by decide)
  have e3 : (a.testBit k = true) ↔ a / 2 ^ k % 2 = 1 := by rw [Nat.testBit_eq_decide_div_mod_eq]; simp
  generalize a / 2 ^ k % 2 = r at e e2 e3
  refine iX7_isIn_0 (iX7_isIn_1 (iX7_isIn_2 (iX7_isIn_3 (iX7_isIn_4 (iX7_isIn_5 ?_)))))
  rw [e]
  refine iX7_isIn_6 (by omega) (by omega) (fun h1 => ?_) (fun h1 => ?_)
  · refine iX7_isIn_13 (iX7_isIn_14 ?_ ?_)
    · exact Or.inl rfl
    · exact ⟨(bz_f (by rw [e3]; omega)).symm, rfl⟩
  · refine iX7_isIn_9 (iX7_isIn_10 (iX7_isIn_14 ?_ ?_))
    · exact Or.inr rfl
    · exact ⟨(bz_t (by rw [e3]; omega)).symm, rfl⟩
/-- how many of the bits below n -/
def cnt (a : Nat) : Nat → Nat
  | 0 => 0
  | n + 1 => cnt a n + a / 2 ^ n % 2
theorem cnt_le (a : Nat) : ∀ n, cnt a n ≤ n
  | 0 => Nat.le_refl _
  | n + 1 => by
    have := cnt_le a n
    have : a / 2 ^ n % 2 < 2 := Nat.mod_lt _ (by decide)
    show cnt a n + _ ≤ n + 1
    omega
theorem sp_X7_ones {d a : Nat} (ha : a < 2 ^ 31) : MCp mX7_ones d [vi a] (cnt a 9) := by
  intro M
  refine mc_of (L := [vi a, vu, vu]) (by decide +kernel) (Nat.le_of_ble_eq_true rfl) rfl ?_
  refine iX7_ones_0 (iX7_ones_1 (iX7_ones_2 (iX7_ones_3 ?_)))
  have loop : ∀ f k : Nat, ∀ x y : Int, k + f = 9 → x = cnt a k → y = k → MW mX7_ones d 4 [vi a, vi x, vi y] [] M (Ri (fun r M' => r = cnt a 9 ∧ M' = M)) := by
    intro f
    induction f with
    | zero =>
      intro k x y h1 h2 h3
      have : k = 9 := by omega
      subst this
      refine iX7_ones_4 (iX7_ones_5 (iX7_ones_7 (by omega) (by omega) (fun h => ?_) (fun h => ?_)))
      · refine iX7_ones_24 (iX7_ones_25 ?_)
        exact ⟨h2, rfl⟩
      · omega
    | succ f ih =>
      intro k x y h1 h2 h3
      have hc := cnt_le a k
      refine iX7_ones_4 (iX7_ones_5 (iX7_ones_7 (by omega) (by omega) (fun h => ?_) (fun h => ?_)))
      · omega
      · subst h3
        refine iX7_ones_10 (iX7_ones_11 (iX7_ones_12 (iX7_ones_13 (iX7_ones_14 (iX7_ones_15 ?_)))))
        rw [bit_at ha (by omega)]
        refine iX7_ones_16 (iX7_ones_17 (iX7_ones_18 (iX7_ones_21 ?_)))
        refine ih (k + 1) _ _ (by omega) ?_ (by omega)
        show _ = ((cnt a k + a / 2 ^ k % 2 : Nat) : Int)
        omega
  exact loop 9 0 0 0 (by omega) rfl rfl
theorem sp_X7_isEight {d : Nat} {a : Int} (ha : inR a) : MCp mX7_isEight (d + 1) [vi a] (bz (0 ≤ a ∧ a ≤ 7)) := by
  intro M
  refine mc_of (L := [vi a]) (by decide +kernel) (Nat.le_of_ble_eq_true rfl) rfl ?_
  show MW mX7_isEight (d + 1) 0 [vi a] [] (sI M (miv M)) _
  refine iX7_isEight_0 (iX7_isEight_1 (iX7_isEight_2 (jX7_isEight_4 (sp_X7_in (by omega) (by omega) (by omega)) (iX7_isEight_7 ?_ ?_))))
  · exact bz01
  · exact ⟨rfl, rfl⟩
theorem sp_X7_isSheet {d : Nat} {a : Int} (ha : inR a) : MCp mX7_isSheet (d + 1) [vi a] (bz (0 ≤ a ∧ a ≤ 3)) := by
  intro M
  refine mc_of (L := [vi a]) (by decide +kernel) (Nat.le_of_ble_eq_true rfl) rfl ?_
  show MW mX7_isSheet (d + 1) 0 [vi a] [] (sI M (miv M)) _
  refine iX7_isSheet_0 (iX7_isSheet_1 (iX7_isSheet_2 (jX7_isSheet_3 (sp_X7_in (by omega) (by omega) (by omega)) (iX7_isSheet_6 ?_ ?_))))
  · exact bz01
  · exact ⟨rfl, rfl⟩
