/-! WHAT A SALE DOES, plainly: the houses sold with it are a closure -/
noncomputable def cif {α : Type} (p : Prop) (a b : α) : α := @ite α p (Classical.propDecidable p) a b
theorem cif_t {α : Type} {p : Prop} {a b : α} (h : p) : cif p a b = a := @if_pos p (Classical.propDecidable p) h α a b
theorem cif_f {α : Type} {p : Prop} {a b : α} (h : ¬ p) : cif p a b = b := @if_neg p (Classical.propDecidable p) h α a b
theorem cif_iff {α : Type} {p q : Prop} {a b : α} (h : p ↔ q) : cif p a b = cif q a b := by
  by_cases hp : p
  · rw [cif_t hp, cif_t (h.mp hp)]
  · rw [cif_f hp, cif_f (fun z => hp (h.mpr z))]
/-- houses, people, the laws, where all are -/
abbrev NE : Type := Nat × Nat × (Nat → Int) × (Nat → Int)
/-- owners, keepers, how often sold -/
abbrev NN : Type := (Nat → Int) × (Nat → Int) × (Nat → Int)
/-- the person p goes along when the house j is sold to b -/
def mov (E : NE) (sd : Nat → Int) (b j p : Nat) : Prop := p < E.2.1 ∧ E.2.2.1 0 = 1 ∧ E.2.2.2 p = (j : Int) ∧ p ≠ b ∧ (E.2.2.1 2 = 0 ∨ sd p = 0)
def drag (E : NE) (N : NN) (b j i : Nat) : Prop := i < E.1 ∧ E.2.2.1 1 = 1 ∧ ∃ p, mov E N.2.2 b j p ∧ N.1 i = (p : Int)
def clo (E : NE) (N : NN) (h b i : Nat) : Prop := ∀ D : Nat → Prop, D h → (∀ j i, D j → drag E N b j i → D i) → D i
theorem clo_h {E : NE} {N : NN} {h b : Nat} : clo E N h b h := fun _ h0 _ => h0
theorem clo_s {E : NE} {N : NN} {h b j i : Nat} (hj : clo E N h b j) (hd : drag E N b j i) : clo E N h b i := fun D h0 hs => hs j i (hj D h0 hs) hd
theorem clo_lt {E : NE} {N : NN} {h b i : Nat} (hh : h < E.1) (hi : clo E N h b i) : i < E.1 := hi (fun i => i < E.1) hh (fun _ _ _ hd => hd.1)
def tak (E : NE) (N : NN) (h b p : Nat) : Prop := ∃ j, clo E N h b j ∧ mov E N.2.2 b j p
noncomputable def cntC (f : Nat → Prop) : Nat → Nat
  | 0 => 0
  | n + 1 => cntC f n + cif (f n) 1 0
theorem cntC_le (f : Nat → Prop) : ∀ n, cntC f n ≤ n
  | 0 => Nat.le_refl _
  | n + 1 => by
    have h := cntC_le f n
    show cntC f n + cif (f n) 1 0 ≤ n + 1
    by_cases hf : f n
    · rw [cif_t hf]; omega
    · rw [cif_f hf]; omega
theorem cntC_iff {f g : Nat → Prop} : ∀ {n : Nat}, (∀ i, i < n → (f i ↔ g i)) → cntC f n = cntC g n
  | 0, _ => rfl
  | n + 1, h => by
    show cntC f n + cif (f n) 1 0 = cntC g n + cif (g n) 1 0
    rw [cntC_iff (fun i hi => h i (by omega)), cif_iff (h n (by omega))]
noncomputable def sl (E : NE) (N : NN) (h b : Int) : NN := if h < E.1 ∧ b < E.2.1 then (fun i => cif (clo E N h.toNat b.toNat i) b (N.1 i), fun p => cif (tak E N h.toNat b.toNat p) b (N.2.1 p), fun p => N.2.2 p + cif (tak E N h.toNat b.toNat p) 1 0) else N
noncomputable def slL (E : NE) (N : NN) (h b : Int) : Int := if h < E.1 ∧ b < E.2.1 then (cntC (clo E N h.toNat b.toNat) E.1 : Nat) else 0
/-! bits as sets -/
theorem tb_toNat (x n : Nat) : x / 2 ^ n % 2 = (x.testBit n).toNat := (Nat.toNat_testBit x n).symm
theorem cnt_set {t j : Nat} (h : t.testBit j = false) : ∀ n, cnt (t ||| 2 ^ j) n = cnt t n + if j < n then 1 else 0
  | 0 => by simp [cnt]
  | n + 1 => by
    show cnt (t ||| 2 ^ j) n + (t ||| 2 ^ j) / 2 ^ n % 2 = cnt t n + t / 2 ^ n % 2 + _
    rw [cnt_set h n, tb_toNat, tb_toNat, Nat.testBit_or, Nat.testBit_two_pow]
    by_cases e : j = n
    · subst e
      rw [h]
      simp
    · rw [decide_eq_false e, Bool.or_false]
      by_cases e2 : j < n
      · rw [if_pos e2, if_pos (by omega)]; omega
      · rw [if_neg e2, if_neg (by omega)]; omega
theorem cnt_C {t : Nat} {C : Nat → Prop} : ∀ n, (∀ i, i < n → (t.testBit i = true ↔ C i)) → cnt t n = cntC C n
  | 0, _ => rfl
  | n + 1, h => by
    show cnt t n + t / 2 ^ n % 2 = cntC C n + cif (C n) 1 0
    rw [cnt_C n (fun i hi => h i (by omega)), tb_toNat]
    have := h n (by omega)
    by_cases hC : C n
    · rw [cif_t hC, this.mpr hC]; rfl
    · rw [cif_f hC]
      have : t.testBit n = false := by
        cases hb : t.testBit n with
        | false => rfl
        | true => exact absurd (this.mp hb) hC
      rw [this]; rfl
/-- the list of houses told so far -/
def BI (H : Nat) (f : Nat → Int) (t n : Nat) (ls : Nat → Nat) (C : Nat → Prop) : Prop :=
  t < 2 ^ H ∧ n = cnt t H ∧ (∀ a, a < n → f a = (ls a : Int) ∧ ls a < H ∧ t.testBit (ls a) = true) ∧ (∀ a b, a < n → b < n → ls a = ls b → a = b) ∧ (∀ i, t.testBit i = true → ∃ a, a < n ∧ ls a = i) ∧ ∀ i, t.testBit i = true → C i
theorem BI.add {H : Nat} {f g : Nat → Int} {t n : Nat} {ls : Nat → Nat} {C : Nat → Prop} (h : BI H f t n ls C) {j : Nat} (hj : j < H) (hb : t.testBit j = false) (hC : C j) (hg : g n = (j : Int)) (hg2 : ∀ a, a ≠ n → g a = f a) : BI H g (t ||| 2 ^ j) (n + 1) (fun a => if a = n then j else ls a) C := by
  obtain ⟨h1, h2, h3, h4, h5, h6⟩ := h
  have tb : ∀ i, (t ||| 2 ^ j).testBit i = (t.testBit i || decide (j = i)) := fun i => by rw [Nat.testBit_or, Nat.testBit_two_pow]
  refine ⟨Nat.or_lt_two_pow h1 (Nat.pow_lt_pow_right (by decide) hj), ?_, ?_, ?_, ?_, ?_⟩
  · rw [cnt_set hb, if_pos hj, h2]
  · intro a ha
    by_cases e : a = n
    · subst e
      simp only [if_pos rfl]
      exact ⟨hg, hj, by rw [tb]; simp⟩
    · simp only [if_neg e]
      obtain ⟨g1, g2, g3⟩ := h3 a (by omega)
      exact ⟨by rw [hg2 a e]; exact g1, g2, by rw [tb, g3]; rfl⟩
  · intro a b ha hb2 e
    have nj : ∀ a, a < n → ls a ≠ j := fun a ha e => by
      have := (h3 a ha).2.2
      rw [e, hb] at this
      cases this
    by_cases e1 : a = n <;> by_cases e2 : b = n
    · omega
    · simp only [if_pos e1, if_neg e2] at e
      exact absurd e.symm (nj b (by omega))
    · simp only [if_neg e1, if_pos e2] at e
      exact absurd e (nj a (by omega))
    · simp only [if_neg e1, if_neg e2] at e
      exact h4 a b (by omega) (by omega) e
  · intro i hi
    rw [tb] at hi
    by_cases e : j = i
    · exact ⟨n, by omega, by simp only [if_pos rfl]; exact e⟩
    · rw [decide_eq_false e, Bool.or_false] at hi
      obtain ⟨a, g1, g2⟩ := h5 i hi
      exact ⟨a, by omega, by simp only [if_neg (show ¬ a = n by omega)]; exact g2⟩
  · intro i hi
    rw [tb] at hi
    by_cases e : j = i
    · subst e; exact hC
    · rw [decide_eq_false e, Bool.or_false] at hi
      exact h6 i hi
theorem BI.le {H : Nat} {f : Nat → Int} {t n : Nat} {ls : Nat → Nat} {C : Nat → Prop} (h : BI H f t n ls C) : n ≤ H := by
  rw [h.2.1]; exact cnt_le t H
theorem BI.room {H : Nat} {f : Nat → Int} {t n : Nat} {ls : Nat → Nat} {C : Nat → Prop} (h : BI H f t n ls C) {j : Nat} (hj : j < H) (hb : t.testBit j = false) : n + 1 ≤ H := by
  have := cnt_set hb H
  rw [if_pos hj] at this
  have h2 := cnt_le (t ||| 2 ^ j) H
  have h3 := h.2.1
  omega
/-- the numbers that a noon holds are small -/
def NR (E : NE) (m : Int) (N : NN) : Prop := E.1 ≤ 8 ∧ E.2.1 ≤ 8 ∧ (∀ k, k < 3 → E.2.2.1 k = 0 ∨ E.2.2.1 k = 1) ∧ (∀ p, p < E.2.1 → -1 ≤ E.2.2.2 p ∧ E.2.2.2 p ≤ 8) ∧ (∀ i, i < E.1 → 0 ≤ N.1 i ∧ N.1 i ≤ 7) ∧ ∀ p, p < E.2.1 → (0 ≤ N.2.1 p ∧ N.2.1 p < E.2.1) ∧ 0 ≤ N.2.2 p ∧ N.2.2 p ≤ m
/-- the model's rows hold a noon -/
def NSt (E : NE) (N : NN) (V : MVal) : Prop := V 94 2 = E.1 ∧ V 94 5 = E.2.1 ∧ (∀ k, k < 3 → V 101 k = E.2.2.1 k) ∧ (∀ p, p < E.2.1 → V 104 p = E.2.2.2 p) ∧ (∀ i, i < E.1 → V 105 i = N.1 i) ∧ ∀ p, p < E.2.1 → V 106 p = N.2.1 p ∧ V 107 p = N.2.2 p
/-- nothing but the noon's rows and the list has moved -/
def FrN (V V' : MVal) : Prop := ∀ q, q ≠ 105 → q ≠ 106 → q ≠ 107 → q ≠ 108 → V' q = V q
