/-! WHAT THE COMPONENT's HEAP TELLS: V is the state (as the model's rows), M the cells, W the ints -/
/-- a list's array, its cells -/
def le (M : MH) (a : Nat) : Nat := (mrv M a 1).getD 0
def el (M : MH) (a k : Nat) : Nat := (mrv M (le M a) k).getD 0
def LST (M : MH) (W : MVal) (a : Nat) : Prop := mrv M a 1 = some (le M a) ∧ (le M a = 0 ∧ W a 2 = 0 ∨ 122 ≤ le M a ∧ le M a < mhn M ∧ msh M (le M a) = (104, 10)) ∧ 0 ≤ W a 2 ∧ W a 2 ≤ 8
def LC (M : MH) (W : MVal) (a : Nat) (kd : Nat × Nat) (n : Nat) : Prop := W a 2 = n ∧ ∀ k, k < n → mrv M (le M a) k = some (el M a k) ∧ 122 ≤ el M a k ∧ el M a k < mhn M ∧ msh M (el M a k) = kd
/-- the street as a number -/
def stt (z : Int) : Int := if z = -1 then 8 else z
def RF (V : MVal) (M : MH) (W : MVal) : Prop := W 3 4 = fH V ∧ LC M W 4 (4, 2) (nH V) ∧ ∀ k, k < nH V → W (el M 4 k) 0 = ow V k ∧ W (el M 4 k) 1 = pr V k
def FF (V : MVal) (M : MH) (W : MVal) : Prop := W 6 4 = fP V ∧ LC M W 7 (5, 2) (nP V) ∧ ∀ k, k < nP V → W (el M 7 k) 0 = kd V k ∧ W (el M 7 k) 1 = stt (pl0 V k)
def CIt (V : MVal) (W : MVal) : Prop := W 3 1 = V 95 0 ∧ (∀ k, k < 30 → W 5 k = V 96 k) ∧ W 6 1 = V 95 1 ∧ ∀ k, k < 24 → W 8 k = V 96 (30 + k)
def CIp (V : MVal) (W : MVal) : Prop := (∀ k, k < 3 → W 9 k = V 101 k) ∧ W 2 7 = V 94 9 ∧ (∀ k, k < 12 → W 10 k = V 102 k ∧ W 11 k = V 103 k) ∧ W 2 0 = V 94 32 ∧ ∀ a b, a < 8 → b < 8 → W (66 + a) b = V 109 (8 * a + b) ∧ W (75 + a) b = V 110 (8 * a + b)
def CIf (V : MVal) (M : MH) (W : MVal) : Prop := LC M W 87 (100, 2) (V 94 23).toNat ∧ ∀ k, k < (V 94 23).toNat → W (el M 87 k) 0 = V 114 k ∧ W (el M 87 k) 1 = V 115 k
/-- a sheet's cell -/
def sc (M : MH) (s : Nat) : Nat := (mrv M (90 + s) 0).getD 0
def shk (f : Int) : Nat := if f = 0 then 102 else if f = 1 then 103 else 100
def CIs (V : MVal) (M : MH) (W : MVal) : Prop := ∀ s, s < 4 → (V 117 s = 0 ∧ mrv M (90 + s) 0 = none) ∨ (V 117 s = 1 ∧ mrv M (90 + s) 0 = some (sc M s) ∧ 122 ≤ sc M s ∧ sc M s < mhn M ∧ msh M (sc M s) = (shk (V 118 s), (V 119 s).toNat) ∧ ∀ i, i < (V 119 s).toNat → W (sc M s) i = V 120 (48 * s + i))
/-- what is kept apart -/
def CIa (V : MVal) (M : MH) : Prop := (le M 4 = 0 ∨ le M 4 ≠ le M 7 ∧ le M 4 ≠ le M 87) ∧ (le M 7 = 0 ∨ le M 7 ≠ le M 87) ∧ (∀ s t, s < 4 → t < 4 → s ≠ t → V 117 s = 1 → V 117 t = 1 → sc M s ≠ sc M t) ∧ ∀ s k, s < 4 → k < (V 94 23).toNat → V 117 s = 1 → sc M s ≠ el M 87 k
/-- the noon, and how it went -/
def NK (V : MVal) (W : MVal) : Prop := (∀ k, k ≤ (V 94 9).toNat → (∀ i, i < nH V → W (23 + k) i = (run V (pl V) k).1 i) ∧ ∀ p, p < nP V → W (37 + k) p = (run V (pl V) k).2.1 p ∧ W (51 + k) p = (run V (pl V) k).2.2 p) ∧ (∀ k, k < (V 94 9).toNat → W 64 k = len V (pl V) k) ∧ (∀ i, i < nH V → W 14 i = (run V (pl V) (V 94 9).toNat).1 i) ∧ ∀ p, p < nP V → W 15 p = (run V (pl V) (V 94 9).toNat).2.1 p ∧ W 16 p = (run V (pl V) (V 94 9).toNat).2.2 p
/-- what is fresh, what is stale -/
def CIq (V : MVal) (M : MH) (W : MVal) : Prop := (W 3 3 = 0 ∨ W 3 3 = 1 ∧ RF V M W) ∧ (W 6 3 = 0 ∨ W 6 3 = 1 ∧ FF V M W) ∧ (W 2 3 = 1 ∨ W 2 3 = 0 ∧ W 3 3 = 1 ∧ W 6 3 = 1 ∧ NK V W)
def fr20 (W : MVal) (a k : Nat) : Nat := if W a 3 = 1 then 0 else k
/-- room: so many cells and slots are reserved -/
abbrev RM : Type := Nat × Nat
def CIr (R : RM) (M : MH) (W : MVal) : Prop := 122 ≤ mhn M ∧ mhn M + fr20 W 3 20 + fr20 W 6 20 ≤ R.1 ∧ mhs M + fr20 W 3 100 + fr20 W 6 100 ≤ R.2
def Lim (R : RM) : Prop := R.1 ≤ 500000 ∧ R.2 ≤ 6000000
def CIx (X : MVal) (M : MH) (W : MVal) : Prop := MS (msh M) (mrv M) ∧ ∀ q, 94 ≤ q → q ≤ 121 → W q = X q
def CIl (M : MH) (W : MVal) : Prop := LST M W 4 ∧ LST M W 7 ∧ LST M W 87
/-- all but the limit -/
def CJ (V : MVal) (R : RM) (X : MVal) (M : MH) (W : MVal) : Prop := CS M ∧ CIr R M W ∧ CIx X M W ∧ CIl M W ∧ CIt V W ∧ CIp V W ∧ CIf V M W ∧ CIs V M W ∧ CIa V M ∧ CIq V M W ∧ MI V
section
variable {V X W W' : MVal} {M M' : MH} {R : RM}
theorem CJ.cs (h : CJ V R X M W) : CS M := h.1
theorem CJ.r (h : CJ V R X M W) : CIr R M W := h.2.1
theorem CJ.x (h : CJ V R X M W) : CIx X M W := h.2.2.1
theorem CJ.l (h : CJ V R X M W) : CIl M W := h.2.2.2.1
theorem CJ.t (h : CJ V R X M W) : CIt V W := h.2.2.2.2.1
theorem CJ.p (h : CJ V R X M W) : CIp V W := h.2.2.2.2.2.1
theorem CJ.f (h : CJ V R X M W) : CIf V M W := h.2.2.2.2.2.2.1
theorem CJ.s (h : CJ V R X M W) : CIs V M W := h.2.2.2.2.2.2.2.1
theorem CJ.a (h : CJ V R X M W) : CIa V M := h.2.2.2.2.2.2.2.2.1
theorem CJ.q (h : CJ V R X M W) : CIq V M W := h.2.2.2.2.2.2.2.2.2.1
theorem CJ.mi (h : CJ V R X M W) : MI V := h.2.2.2.2.2.2.2.2.2.2
theorem CJ.rf (h : CJ V R X M W) (g : W 3 3 = 1) : RF V M W := by
  rcases h.q.1 with z | z
  · rw [g] at z; cases z
  · exact z.2
theorem CJ.ff (h : CJ V R X M W) (g : W 6 3 = 1) : FF V M W := by
  rcases h.q.2.1 with z | z
  · rw [g] at z; cases z
  · exact z.2
theorem CJ.no (h : CJ V R X M W) {k : Nat} (hk : k = 12 ∨ k = 17) : NO M k := ⟨h.1, hk⟩
end
/-- THE INVARIANT -/
def CI (V : MVal) (R : RM) (X : MVal) (M : MH) (W : MVal) : Prop := Lim R ∧ CJ V R X M W
/-- free for working: 12 .. 21, 23 .. 64, 83 .. 86, 88; always free: 17 .. 21, 83 .. 86, 88 -/
def sN (q : Nat) : Bool := (Nat.ble 12 q && Nat.ble q 21) || (Nat.ble 23 q && Nat.ble q 64) || (Nat.ble 83 q && Nat.ble q 86) || Nat.beq q 88
def s0 (q : Nat) : Bool := (Nat.ble 17 q && Nat.ble q 21) || (Nat.ble 83 q && Nat.ble q 86) || Nat.beq q 88
theorem sN_big {q : Nat} (h : 89 ≤ q) : sN q = false := by
  have e1 : Nat.ble q 21 = false := by cases e : Nat.ble q 21 with | false => rfl | true => (have := Nat.le_of_ble_eq_true e; omega)
  have e2 : Nat.ble q 64 = false := by cases e : Nat.ble q 64 with | false => rfl | true => (have := Nat.le_of_ble_eq_true e; omega)
  have e3 : Nat.ble q 86 = false := by cases e : Nat.ble q 86 with | false => rfl | true => (have := Nat.le_of_ble_eq_true e; omega)
  have e4 : Nat.beq q 88 = false := by cases e : Nat.beq q 88 with | false => rfl | true => (have := Nat.eq_of_beq_eq_true e; omega)
  unfold sN
  rw [e1, e2, e3, e4]
  simp
theorem sN_66 : ∀ a, a < 8 → sN (66 + a) = false ∧ sN (75 + a) = false := by decide
section
variable {V X W W' : MVal} {M M' : MH} {R : RM}
theorem LST.w {a : Nat} (h : LST M W a) (e : W' a = W a) : LST M W' a := by unfold LST; rw [e]; exact h
theorem LC.w {a n : Nat} {kd : Nat × Nat} (h : LC M W a kd n) (e : W' a = W a) : LC M W' a kd n := by unfold LC; rw [e]; exact h
theorem RF.w (h : RF V M W) (e3 : W' 3 = W 3) (e4 : W' 4 = W 4) (e : ∀ q, 122 ≤ q → W' q = W q) : RF V M W' :=
  ⟨by rw [e3]; exact h.1, h.2.1.w e4, fun k hk => by rw [e _ (h.2.1.2 k hk).2.1]; exact h.2.2 k hk⟩
theorem FF.w (h : FF V M W) (e3 : W' 6 = W 6) (e4 : W' 7 = W 7) (e : ∀ q, 122 ≤ q → W' q = W q) : FF V M W' :=
  ⟨by rw [e3]; exact h.1, h.2.1.w e4, fun k hk => by rw [e _ (h.2.1.2 k hk).2.1]; exact h.2.2 k hk⟩
/-- ints that are free for working have moved -/
theorem CJ.w (h : CJ V R X M W) (e : ∀ q, sN q = false → W' q = W q) (hs : W 2 3 = 1 ∨ ∀ q, s0 q = false → W' q = W q) : CJ V R X M W' := by
  have eb : ∀ q, 122 ≤ q → W' q = W q := fun q hq => e q (sN_big (by omega))
  have e2 := e 2 rfl
  have e3 := e 3 rfl
  have e4 := e 4 rfl
  have e6 := e 6 rfl
  have e7 := e 7 rfl
  obtain ⟨h1, h2, h3, h4, h5, h6, h7, h8, h9, h10, h11⟩ := h
  refine ⟨h1, ?_, ⟨h3.1, fun q a b => by rw [e q (sN_big (by omega))]; exact h3.2 q a b⟩, ⟨h4.1.w e4, h4.2.1.w e7, h4.2.2.w (e 87 rfl)⟩, ?_, ?_, ⟨h7.1.w (e 87 rfl), fun k hk => by rw [eb _ (h7.1.2 k hk).2.1]; exact h7.2 k hk⟩, fun s hs => ?_, h9, ⟨?_, ?_, ?_⟩, h11⟩
  · unfold CIr fr20; rw [e3, e6]; exact h2
  · unfold CIt; rw [e3, e 5 rfl, e6, e 8 rfl]; exact h5
  · refine ⟨by rw [e 9 rfl]; exact h6.1, by rw [e2]; exact h6.2.1, by rw [e 10 rfl, e 11 rfl]; exact h6.2.2.1, by rw [e2]; exact h6.2.2.2.1, fun a b ha hb => ?_⟩
    rw [e _ (sN_66 a ha).1, e _ (sN_66 a ha).2]
    exact h6.2.2.2.2 a b ha hb
  · rcases h8 s hs with z | ⟨z1, z2, z3, z4, z5, z6⟩
    · exact Or.inl z
    · exact Or.inr ⟨z1, z2, z3, z4, z5, fun i hi => by rw [eb _ z3]; exact z6 i hi⟩
  · rw [e3]
    rcases h10.1 with z | z
    · exact Or.inl z
    · exact Or.inr ⟨z.1, z.2.w e3 e4 eb⟩
  · rw [e6]
    rcases h10.2.1 with z | z
    · exact Or.inl z
    · exact Or.inr ⟨z.1, z.2.w e6 e7 eb⟩
  · rw [e2, e3, e6]
    rcases h10.2.2 with z | ⟨z1, z2, z3, z4, z5, z6, z7⟩
    · exact Or.inl z
    · rcases hs with y | y
      · rw [z1] at y; cases y
      · have r : ∀ k, k < 13 → s0 (23 + k) = false ∧ s0 (37 + k) = false ∧ s0 (51 + k) = false := by decide
        have hk := h11.s
        · refine Or.inr ⟨z1, z2, z3, fun k hk2 => ?_, by rw [y 64 rfl]; exact z5, by rw [y 14 rfl]; exact z6, by rw [y 15 rfl, y 16 rfl]; exact z7⟩
          obtain ⟨r1, r2, r3⟩ := r k (by omega)
          rw [y _ r1, y _ r2, y _ r3]
          exact z4 k hk2
theorem CI.w (h : CI V R X M W) (e : ∀ q, sN q = false → W' q = W q) (hs : W 2 3 = 1 ∨ ∀ q, s0 q = false → W' q = W q) : CI V R X M W' := ⟨h.1, h.2.w e hs⟩
end
