/-! the model: small pure methods -/
def bz (p : Prop) [Decidable p] : Int := if p then 1 else 0
theorem bz_t {p : Prop} [Decidable p] (h : p) : bz p = 1 := if_pos h
theorem bz_f {p : Prop} [Decidable p] (h : ¬ p) : bz p = 0 := if_neg h
theorem bz01 {p : Prop} [Decidable p] : bz p = 0 ∨ bz p = 1 := by
  unfold bz; split
  · exact Or.inr rfl
  · exact Or.inl rfl
theorem bzR {p : Prop} [Decidable p] : inR (bz p) := by
  rcases bz01 (p := p) with h | h <;> rw [h] <;> exact ⟨by decide, by decide⟩
theorem bz_ne {p : Prop} [Decidable p] (h : ¬ bz p = 0) : p := by
  by_cases hp : p
  · exact hp
  · exact absurd (bz_f hp) h
theorem bz_eq {p : Prop} [Decidable p] (h : bz p = 0) : ¬ p := by
  intro hp
  rw [bz_t hp] at h
  cases h
theorem sp_X7_in {d : Nat} {a b c : Int} (ha : inR a) (hb : inR b) (hc : inR c) : MCp mX7_in d [vi a, vi b, vi c] (bz (b ≤ a ∧ a ≤ c)) := by
  intro M
  refine mc_of (L := [vi a, vi b, vi c]) (by decide +kernel) (Nat.le_of_ble_eq_true rfl) rfl ?_
  refine iX7_in_0 (iX7_in_1 (iX7_in_2 (by omega) (by omega) (fun h1 => ?_) (fun h1 => ?_)))
  · refine iX7_in_14 (iX7_in_15 ?_ ?_)
    · exact Or.inl rfl
    · exact ⟨(bz_f (by omega)).symm, rfl⟩
  · refine iX7_in_5 (iX7_in_6 (iX7_in_7 (by omega) (by omega) (fun h2 => ?_) (fun h2 => ?_)))
    · refine iX7_in_14 (iX7_in_15 ?_ ?_)
      · exact Or.inl rfl
      · exact ⟨(bz_f (by omega)).symm, rfl⟩
    · refine iX7_in_10 (iX7_in_11 (iX7_in_15 ?_ ?_))
      · exact Or.inr rfl
      · exact ⟨(bz_t (by omega)).symm, rfl⟩
