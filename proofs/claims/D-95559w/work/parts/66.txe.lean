/-! small things of the component -/
theorem sp_X0_in {d : Nat} {a b c : Int} (ha : inR a) (hb : inR b) (hc : inR c) : MCp mX0_in d [vl a, vl b, vl c] (bz (b ≤ a ∧ a ≤ c)) := by
  intro M
  refine mc_of (L := [vl a, vu, vl b, vu, vl c, vu]) (by decide +kernel) (Nat.le_of_ble_eq_true rfl) rfl ?_
  have l1 : ∀ x y : Int, (lcm x y < 0 ↔ x < y) ∧ (0 < lcm x y ↔ y < x) ∧ -1 ≤ lcm x y ∧ lcm x y ≤ 1 := fun x y => by unfold lcm; split <;> (try split) <;> omega
  have h1 := l1 a b
  have h2 := l1 a c
  refine iX0_in_0 (iX0_in_1 (iX0_in_2 (by omega) (by omega) (iX0_in_3 (by omega) (fun g1 => ?_) (fun g1 => ?_))))
  · refine iX0_in_17 (iX0_in_18 ?_ ?_)
    · exact Or.inl rfl
    · exact ⟨(bz_f (by omega)).symm, rfl⟩
  refine iX0_in_6 (iX0_in_7 (iX0_in_9 (by omega) (by omega) (iX0_in_10 (by omega) (fun g2 => ?_) (fun g2 => ?_))))
  · refine iX0_in_17 (iX0_in_18 ?_ ?_)
    · exact Or.inl rfl
    · exact ⟨(bz_f (by omega)).symm, rfl⟩
  · refine iX0_in_13 (iX0_in_14 (iX0_in_18 ?_ ?_))
    · exact Or.inr rfl
    · exact ⟨(bz_t (by omega)).symm, rfl⟩
theorem sp_X0_isTwo {d : Nat} {a : Int} (ha : inR a) : MCp mX0_isTwo (d + 1) [vi a] (bz (0 ≤ a ∧ a ≤ 1)) := by
  intro M
  refine mc_of (L := [vi a]) (by decide +kernel) (Nat.le_of_ble_eq_true rfl) rfl ?_
  show MW mX0_isTwo (d + 1) 0 [vi a] [] (sI M (miv M)) _
  refine iX0_isTwo_0 (iX0_isTwo_1 (by omega) (iX0_isTwo_2 (iX0_isTwo_3 (cX0_isTwo_4 (sp_X0_in (by omega) (by omega) (by omega)) (iX0_isTwo_7 ?_ ?_)))))
  · exact bz01
  · exact ⟨rfl, rfl⟩
theorem sp_X0_isOne {d : Nat} {a : Int} (ha : inR a) : MCp mX0_isOne (d + 1) [vi a] (bz (0 ≤ a ∧ a ≤ 7)) := by
  intro M
  refine mc_of (L := [vi a]) (by decide +kernel) (Nat.le_of_ble_eq_true rfl) rfl ?_
  show MW mX0_isOne (d + 1) 0 [vi a] [] (sI M (miv M)) _
  refine iX0_isOne_0 (iX0_isOne_1 (by omega) (iX0_isOne_2 (iX0_isOne_3 (cX0_isOne_6 (sp_X0_in (by omega) (by omega) (by omega)) (iX0_isOne_9 ?_ ?_)))))
  · exact bz01
  · exact ⟨rfl, rfl⟩
theorem sp_X0_isSheet {d : Nat} {a : Int} (ha : inR a) : MCp mX0_isSheet (d + 1) [vi a] (bz (0 ≤ a ∧ a ≤ 3)) := by
  intro M
  refine mc_of (L := [vi a]) (by decide +kernel) (Nat.le_of_ble_eq_true rfl) rfl ?_
  show MW mX0_isSheet (d + 1) 0 [vi a] [] (sI M (miv M)) _
  refine iX0_isSheet_0 (iX0_isSheet_1 (by omega) (iX0_isSheet_2 (iX0_isSheet_3 (cX0_isSheet_6 (sp_X0_in (by omega) (by omega) (by omega)) (iX0_isSheet_9 ?_ ?_)))))
  · exact bz01
  · exact ⟨rfl, rfl⟩
theorem sp_X0_isIn {d a k : Nat} (ha : a < 2 ^ 31) (hk : k < 32) : MCp mX0_isIn d [vi a, vi k] (bz (a.testBit k = true)) := by
  intro M
  refine mc_of (L := [vi a, vi k]) (by decide +kernel) (Nat.le_of_ble_eq_true rfl) rfl ?_
  have e := bit_at ha hk
  have e2 : a / 2 ^ k % 2 < 2 := Nat.mod_lt _ (by decide)
  have e3 : (a.testBit k = true) ↔ a / 2 ^ k % 2 = 1 := by rw [Nat.testBit_eq_decide_div_mod_eq]; simp
  generalize a / 2 ^ k % 2 = r at e e2 e3
  refine iX0_isIn_0 (iX0_isIn_1 (iX0_isIn_2 (iX0_isIn_3 (iX0_isIn_4 ?_))))
  rw [e]
  refine iX0_isIn_5 (iX0_isIn_6 (by omega) (by omega) (fun h1 => ?_) (fun h1 => ?_))
  · refine iX0_isIn_13 (iX0_isIn_14 ?_ ?_)
    · exact Or.inl rfl
    · exact ⟨(bz_f (by rw [e3]; omega)).symm, rfl⟩
  · refine iX0_isIn_9 (iX0_isIn_10 (iX0_isIn_14 ?_ ?_))
    · exact Or.inr rfl
    · exact ⟨(bz_t (by rw [e3]; omega)).symm, rfl⟩
theorem sp_X0_any {d : Nat} {a : Int} : MCp mX0_any d [vi a] (-100000 + a) := by
  intro M
  refine mc_of (L := [vi a]) (by decide +kernel) (Nat.le_of_ble_eq_true rfl) rfl ?_
  refine iX0_any_0 (iX0_any_2 (iX0_any_3 (iX0_any_4 ?_)))
  exact ⟨rfl, rfl⟩
theorem sp_X0_told {d : Nat} {a : Int} (ha : inR a) : MCp mX0_told d [vi a] (if a = 8 then -1 else a) := by
  intro M
  refine mc_of (L := [vi a]) (by decide +kernel) (Nat.le_of_ble_eq_true rfl) rfl ?_
  refine iX0_told_0 (iX0_told_1 (iX0_told_3 (by omega) (by omega) (fun g => ?_) (fun g => ?_)))
  · refine iX0_told_10 (iX0_told_11 ?_)
    exact ⟨by rw [if_neg g], rfl⟩
  · refine iX0_told_6 (iX0_told_7 (iX0_told_11 ?_))
    exact ⟨by rw [if_pos (by omega)], rfl⟩
theorem sp_X0_met {d : Nat} {M : MH} {W : MVal} (hS : CS M) {a : Int} : MVi mX0_met d [vp 2, vi a] M W (fun z W' => z = -10 - a ∧ u2 W 2 0 a = W') := by
  refine mc_of (L := [vp 2, vi a]) (by decide +kernel) (Nat.le_of_ble_eq_true rfl) rfl ?_
  refine iX0_met_0 (iX0_met_1 (cX0_met_2 hS (iX0_met_5 (iX0_met_7 (iX0_met_8 (iX0_met_9 ?_))))))
  exact ⟨_, rfl, rfl, rfl⟩
theorem sp_X0_lowest {d : Nat} {M : MH} {W : MVal} (hS : CS M) {a : Int} : MVi mX0_lowest d [vp 2, vi a] M W (fun z W' => z = -2147483648 ∧ u2 W 2 0 a = W') := by
  refine mc_of (L := [vp 2, vi a]) (by decide +kernel) (Nat.le_of_ble_eq_true rfl) rfl ?_
  refine iX0_lowest_0 (iX0_lowest_1 (cX0_lowest_2 hS (iX0_lowest_5 (iX0_lowest_7 ?_))))
  exact ⟨_, rfl, rfl, rfl⟩
/-! READING A TEXT: what may move meanwhile -/
/-- a text's object a, its list a + 1 and the list's array, new cells -/
def TXE (a : Nat) (M : MH) (W : MVal) (M' : MH) : Prop := mhn M ≤ mhn M' ∧ mhs M ≤ mhs M' ∧ (∀ p, p < mhn M → msh M' p = msh M p) ∧ (∀ p, p < mhn M → p ≠ a + 1 → p ≠ le M (a + 1) → mrv M' p = mrv M p) ∧ (∀ k, k ≠ 1 → mrv M' (a + 1) k = mrv M (a + 1) k) ∧ (∀ p, p < mhn M → p ≠ a → p ≠ a + 1 → miv M' p = W p) ∧ (∀ j, j ≠ 2 → miv M' a j = W a j) ∧ LST M' (miv M') (a + 1) ∧ (le M' (a + 1) = le M (a + 1) ∨ mhn M ≤ le M' (a + 1))
section
variable {a : Nat} {V X W W' : MVal} {M M' M1 : MH} {R : RM}
theorem TXE.tr (h : TXE a M W M1) (g : TXE a M1 (miv M1) M') (ha : a + 1 < mhn M) : TXE a M W M' := by
  obtain ⟨h1, h2, h3, h4, h5, h6, h7, h8, h9⟩ := h
  obtain ⟨g1, g2, g3, g4, g5, g6, g7, g8, g9⟩ := g
  refine ⟨by omega, by omega, fun p hp => (g3 p (by omega)).trans (h3 p hp), fun p hp n1 n2 => (g4 p (by omega) n1 ?_).trans (h4 p hp n1 n2), fun k hk => (g5 k hk).trans (h5 k hk), fun p hp n1 n2 => (g6 p (by omega) n1 n2).trans (h6 p hp n1 n2), fun j hj => (g7 j hj).trans (h7 j hj), g8, ?_⟩
  · rcases h9 with e | e
    · rw [e]; exact n2
    · omega
  · rcases g9 with e | e
    · rcases h9 with e2 | e2
      · exact Or.inl (e.trans e2)
      · exact Or.inr (by omega)
    · exact Or.inr (by omega)
theorem LST.same (h : LST M W a) (e1 : mrv M' a 1 = mrv M a 1) (e2 : W' a 2 = W a 2) (e3 : mhn M ≤ mhn M') (e4 : ∀ p, p < mhn M → msh M' p = msh M p) : LST M' W' a := by
  have el : le M' a = le M a := by unfold le; rw [e1]
  unfold LST
  rw [el, e1, e2]
  refine ⟨h.1, ?_, h.2.2⟩
  rcases h.2.1 with z | ⟨z1, z2, z3⟩
  · exact Or.inl z
  · exact Or.inr ⟨z1, by omega, by rw [e4 _ z2]; exact z3⟩
/-- nothing but 'at', and new cells -/
theorem TXE.cells (hl : LST M W (a + 1)) (h1 : mhn M ≤ mhn M') (h2 : mhs M ≤ mhs M') (h3 : ∀ p, p < mhn M → msh M' p = msh M p ∧ mrv M' p = mrv M p) (h4 : ∀ p, p < mhn M → p ≠ a → miv M' p = W p) (h5 : ∀ j, j ≠ 2 → miv M' a j = W a j) (ha : a + 1 < mhn M) : TXE a M W M' :=
  ⟨h1, h2, fun p hp => (h3 p hp).1, fun p hp _ _ => (h3 p hp).2, fun k _ => by rw [(h3 _ ha).2], fun p hp n1 _ => h4 p hp n1, h5, hl.same (by rw [(h3 _ ha).2]) (by rw [h4 _ ha (by omega)]) h1 (fun p hp => (h3 p hp).1), Or.inl (by unfold le; rw [(h3 _ ha).2])⟩
theorem TXE.rf (hl : LST M W (a + 1)) : TXE a M W (sI M W) := ⟨Nat.le_refl _, Nat.le_refl _, fun _ _ => rfl, fun _ _ _ _ => rfl, fun _ _ => rfl, fun _ _ _ _ => rfl, fun _ _ => rfl, hl, Or.inl rfl⟩
theorem TXE.cs (h : TXE a M W M') (hC : CJ V R X M W) (ha : a = 3 ∨ a = 6) : CS M' := by
  obtain ⟨h1, h2, h3, h4, h5, h6, h7, h8, h9⟩ := h
  have hr := hC.r.1
  have hl : le M (a + 1) = 0 ∨ 122 ≤ le M (a + 1) := by
    rcases ha with rfl | rfl
    · rcases hC.l.1.2.1 with z | z
      · exact Or.inl z.1
      · exact Or.inr z.1
    · rcases hC.l.2.1.2.1 with z | z
      · exact Or.inl z.1
      · exact Or.inr z.1
  refine ⟨fun q q1 q2 => (h3 q (by omega)).trans (hC.cs.1 q q1 q2), fun q k q1 q2 q3 => ?_⟩
  by_cases e : q = a + 1
  · subst e
    have hk : k ≠ 1 := fun e => by
      subst e
      rcases ha with rfl | rfl
      · cases q3
      · cases q3
    rw [h5 k hk]
    exact hC.cs.2 _ k q1 q2 q3
  · rw [h4 q (by omega) e (by omega)]
    exact hC.cs.2 q k q1 q2 q3
theorem TXE.t (h : TXE a M W M') (hC : CJ V R X M W) (ha : a = 3 ∨ a = 6) : CIt V (miv M') := by
  obtain ⟨h1, h2, h3, h4, h5, h6, h7, h8, h9⟩ := h
  have hr := hC.r.1
  obtain ⟨t1, t2, t3, t4⟩ := hC.t
  rcases ha with rfl | rfl
  · exact ⟨by rw [h7 1 (by decide)]; exact t1, by rw [h6 5 (by omega) (by decide) (by decide)]; exact t2, by rw [h6 6 (by omega) (by decide) (by decide)]; exact t3, by rw [h6 8 (by omega) (by decide) (by decide)]; exact t4⟩
  · exact ⟨by rw [h6 3 (by omega) (by decide) (by decide)]; exact t1, by rw [h6 5 (by omega) (by decide) (by decide)]; exact t2, by rw [h7 1 (by decide)]; exact t3, by rw [h6 8 (by omega) (by decide) (by decide)]; exact t4⟩
theorem LC.same {n : Nat} {kd : Nat × Nat} (h : LC M W a kd n) (hl : LST M W a) (e1 : mrv M' a 1 = mrv M a 1) (e2 : W' a 2 = W a 2) (e3 : mhn M ≤ mhn M') (e4 : ∀ p, p < mhn M → msh M' p = msh M p) (e5 : 122 ≤ le M a → le M a < mhn M → mrv M' (le M a) = mrv M (le M a)) : LC M' W' a kd n ∧ ∀ k, k < n → el M' a k = el M a k := by
  have e0 : le M' a = le M a := by unfold le; rw [e1]
  have e6 : ∀ k, k < n → mrv M' (le M a) = mrv M (le M a) := fun k hk => by
    rcases hl.2.1 with ⟨z1, z2⟩ | ⟨z1, z2, z3⟩
    · have := h.1; omega
    · exact e5 z1 z2
  have e7 : ∀ k, k < n → el M' a k = el M a k := fun k hk => by unfold el; rw [e0, e6 k hk]
  refine ⟨⟨by rw [e2]; exact h.1, fun k hk => ?_⟩, e7⟩
  obtain ⟨b1, b2, b3, b4⟩ := h.2 k hk
  rw [e7 k hk, e0, e6 k hk]
  exact ⟨b1, b2, by omega, by rw [e4 _ b3]; exact b4⟩
set_option maxHeartbeats 2000000 in
/-- what is told goes on being told: the text a is not fresh -/
theorem CJ.ext (h : TXE a M W M') (hC : CJ V R X M W) (ha : a = 3 ∨ a = 6) (hf : W a 3 = 0) {c s : Nat} (hc : mhn M' ≤ mhn M + c) (hs : mhs M' ≤ mhs M + s) : CJ V (R.1 + c, R.2 + s) X M' (miv M') := by
  have hcs := h.cs hC ha
  have ht := h.t hC ha
  obtain ⟨h1, h2, h3, h4, h5, h6, h7, h8, h9⟩ := h
  have hr := hC.r
  have hm := hr.1
  have hst : W 2 3 = 1 := by
    rcases hC.q.2.2 with z | ⟨z1, z2, z3, -⟩
    · exact z
    · rcases ha with rfl | rfl
      · rw [hf] at z2; cases z2
      · rw [hf] at z3; cases z3
  have e : ∀ q, q ≤ 121 → q ≠ 3 → q ≠ 4 → q ≠ 6 → q ≠ 7 → miv M' q = W q := fun q q0 q1 q2 q3 q4 => h6 q (by omega) (by rcases ha with rfl | rfl <;> assumption) (by rcases ha with rfl | rfl <;> assumption)
  have e33 : miv M' 3 3 = W 3 3 := by
    rcases ha with rfl | rfl
    · exact h7 3 (by decide)
    · rw [h6 3 (by omega) (by decide) (by decide)]
  have e63 : miv M' 6 3 = W 6 3 := by
    rcases ha with rfl | rfl
    · rw [h6 6 (by omega) (by decide) (by decide)]
    · exact h7 3 (by decide)
  have big : ∀ q, 122 ≤ q → q < mhn M → miv M' q = W q := fun q q1 q2 => h6 q q2 (by omega) (by omega)
  obtain ⟨la1, la2, la3, la4⟩ := hC.a
  have rv : ∀ p, p < mhn M → p ≠ 4 → p ≠ 7 → p ≠ le M (a + 1) → mrv M' p = mrv M p := fun p p1 p2 p3 p4 => h4 p p1 (by rcases ha with rfl | rfl <;> assumption) p4
  have le0 : ∀ b, b = 4 ∨ b = 7 ∨ b = 87 → le M b = 0 ∧ W b 2 = 0 ∨ 122 ≤ le M b ∧ le M b < mhn M := fun b hb => by
    rcases hb with rfl | rfl | rfl
    · rcases hC.l.1.2.1 with z | z
      · exact Or.inl z
      · exact Or.inr ⟨z.1, z.2.1⟩
    · rcases hC.l.2.1.2.1 with z | z
      · exact Or.inl z
      · exact Or.inr ⟨z.1, z.2.1⟩
    · rcases hC.l.2.2.2.1 with z | z
      · exact Or.inl z
      · exact Or.inr ⟨z.1, z.2.1⟩
  have lA := le0 (a + 1) (by rcases ha with rfl | rfl <;> simp)
  have l87 := le0 87 (by simp)
  have r87 : mrv M' 87 = mrv M 87 := rv 87 (by omega) (by decide) (by decide) (by omega)
  have ne87 : 122 ≤ le M 87 → le M 87 ≠ le M (a + 1) := fun z e => by
    rcases ha with rfl | rfl
    · have e : le M 87 = le M 4 := e
      rcases la1 with y | y
      · omega
      · exact y.2 e.symm
    · have e : le M 87 = le M 7 := e
      rcases la2 with y | y
      · omega
      · exact y e.symm
  have c87 := hC.f.1.same (M' := M') (W' := miv M') hC.l.2.2 (by rw [r87]) (by rw [e 87 (by decide) (by decide) (by decide) (by decide) (by decide)]) h1 h3 (fun z1 z2 => rv _ z2 (by omega) (by omega) (ne87 z1))
  have L87 : LST M' (miv M') 87 := hC.l.2.2.same (by rw [r87]) (by rw [e 87 (by decide) (by decide) (by decide) (by decide) (by decide)]) h1 h3
  have el87 : le M' 87 = le M 87 := by unfold le; rw [r87]
  -- the other text
  have oth : ∀ b, (b = 3 ∨ b = 6) → b ≠ a → miv M' b = W b ∧ miv M' (b + 1) = W (b + 1) ∧ mrv M' (b + 1) = mrv M (b + 1) ∧ (122 ≤ le M (b + 1) → le M (b + 1) < mhn M → mrv M' (le M (b + 1)) = mrv M (le M (b + 1))) := by
    intro b hb hba
    refine ⟨h6 b (by omega) hba (by omega), h6 (b + 1) (by omega) (by omega) (by omega), h4 (b + 1) (by omega) (by omega) (by omega), fun z1 z2 => h4 _ z2 (by omega) (fun e => ?_)⟩
    rcases la1 with y | y
    · rcases ha with rfl | rfl <;> rcases hb with rfl | rfl
      · exact hba rfl
      · have e : le M 7 = le M 4 := e
        have z1 : 122 ≤ le M 7 := z1
        omega
      · have z1 : 122 ≤ le M 4 := z1
        omega
      · exact hba rfl
    · rcases ha with rfl | rfl <;> rcases hb with rfl | rfl
      · exact hba rfl
      · exact y.1 e.symm
      · exact y.1 e
      · exact hba rfl
  refine ⟨hcs, ⟨by omega, ?_, ?_⟩, ⟨?_, fun q q1 q2 => by rw [e q q2 (by omega) (by omega) (by omega) (by omega)]; exact hC.x.2 q q1 q2⟩, ?_, ht, ?_, ⟨c87.1, fun k hk => ?_⟩, fun s hs => ?_, ?_, ⟨?_, ?_, Or.inl ?_⟩, hC.mi⟩
  · show mhn M' + fr20 (miv M') 3 20 + fr20 (miv M') 6 20 ≤ R.1 + c
    have := hr.2.1
    unfold fr20 at this ⊢
    rw [e33, e63]
    omega
  · show mhs M' + fr20 (miv M') 3 100 + fr20 (miv M') 6 100 ≤ R.2 + s
    have := hr.2.2
    unfold fr20 at this ⊢
    rw [e33, e63]
    omega
  · obtain ⟨m1, m2, m3⟩ := hC.x.1
    exact ⟨by rw [h3 94 (by omega)]; exact m1, fun k hk => by rw [rv 94 (by omega) (by decide) (by decide) (by omega)]; exact m2 k hk, fun q q1 q2 => by rw [h3 q (by omega)]; exact m3 q q1 q2⟩
  · refine ⟨?_, ?_, L87⟩
    · rcases ha with rfl | rfl
      · exact h8
      · obtain ⟨o1, o2, o3, o4⟩ := oth 3 (Or.inl rfl) (by decide)
        exact hC.l.1.same (by rw [o3]) (by rw [o2]) h1 h3
    · rcases ha with rfl | rfl
      · obtain ⟨o1, o2, o3, o4⟩ := oth 6 (Or.inr rfl) (by decide)
        exact hC.l.2.1.same (by rw [o3]) (by rw [o2]) h1 h3
      · exact h8
  · obtain ⟨p1, p2, p3, p4, p5⟩ := hC.p
    have ee : ∀ q, q ≤ 121 → 8 ≤ q → miv M' q = W q := fun q q1 q2 => e q q1 (by omega) (by omega) (by omega) (by omega)
    refine ⟨by rw [ee 9 (by decide) (by decide)]; exact p1, by rw [e 2 (by decide) (by decide) (by decide) (by decide) (by decide)]; exact p2, by rw [ee 10 (by decide) (by decide), ee 11 (by decide) (by decide)]; exact p3, by rw [e 2 (by decide) (by decide) (by decide) (by decide) (by decide)]; exact p4, fun x y hx hy => ?_⟩
    rw [ee (66 + x) (by omega) (by omega), ee (75 + x) (by omega) (by omega)]
    exact p5 x y hx hy
  · have b := (hC.f.1.2 k hk).2
    rw [c87.2 k hk, big _ b.1 b.2.1]
    exact hC.f.2 k hk
  · have r9 : mrv M' (90 + s) = mrv M (90 + s) := rv _ (by omega) (by omega) (by omega) (by omega)
    have es : sc M' s = sc M s := by unfold sc; rw [r9]
    rcases hC.s s hs with ⟨z1, z2⟩ | ⟨z1, z2, z3, z4, z5, z6⟩
    · exact Or.inl ⟨z1, by rw [r9]; exact z2⟩
    · refine Or.inr ⟨z1, by rw [r9, es]; exact z2, by rw [es]; exact z3, by rw [es]; omega, by rw [es, h3 _ z4]; exact z5, fun i hi => ?_⟩
      rw [es, big _ z3 z4]
      exact z6 i hi
  · have es : ∀ s, s < 4 → sc M' s = sc M s := fun s hs => by unfold sc; rw [rv _ (by omega) (by omega) (by omega) (by omega)]
    refine ⟨?_, ?_, fun s t hs ht hst v1 v2 => by rw [es s hs, es t ht]; exact la3 s t hs ht hst v1 v2, fun s k hs hk v => by rw [es s hs, c87.2 k hk]; exact la4 s k hs hk v⟩
    · rcases ha with rfl | rfl
      · obtain ⟨o1, o2, o3, o4⟩ := oth 6 (Or.inr rfl) (by decide)
        have e7 : le M' 7 = le M 7 := by unfold le; rw [show mrv M' 7 = mrv M 7 from o3]
        rw [e7, el87]
        have z7 := le0 7 (by simp)
        rcases h9 with y | y
        · rw [show le M' 4 = le M 4 from y]; exact la1
        · have y : mhn M ≤ le M' 4 := y
          exact Or.inr ⟨by omega, by omega⟩
      · obtain ⟨o1, o2, o3, o4⟩ := oth 3 (Or.inl rfl) (by decide)
        have e4 : le M' 4 = le M 4 := by unfold le; rw [show mrv M' 4 = mrv M 4 from o3]
        rw [e4, el87]
        have z4 := le0 4 (by simp)
        rcases h9 with y | y
        · rw [show le M' 7 = le M 7 from y]; exact la1
        · have y : mhn M ≤ le M' 7 := y
          rcases la1 with w | w
          · exact Or.inl w
          · exact Or.inr ⟨by omega, w.2⟩
    · rcases ha with rfl | rfl
      · obtain ⟨o1, o2, o3, o4⟩ := oth 6 (Or.inr rfl) (by decide)
        have e7 : le M' 7 = le M 7 := by unfold le; rw [show mrv M' 7 = mrv M 7 from o3]
        rw [e7, el87]; exact la2
      · rw [el87]
        rcases h9 with y | y
        · rw [show le M' 7 = le M 7 from y]; exact la2
        · have y : mhn M ≤ le M' 7 := y
          exact Or.inr (by omega)
  · rcases ha with rfl | rfl
    · exact Or.inl (by rw [e33]; exact hf)
    · obtain ⟨o1, o2, o3, o4⟩ := oth 3 (Or.inl rfl) (by decide)
      rw [e33]
      rcases hC.q.1 with z | ⟨z1, z2, z3, z4⟩
      · exact Or.inl z
      · have q := z3.same (M' := M') (W' := miv M') hC.l.1 (by rw [show mrv M' 4 = mrv M 4 from o3]) (by rw [show miv M' 4 = W 4 from o2]) h1 h3 o4
        refine Or.inr ⟨z1, by rw [show miv M' 3 = W 3 from o1]; exact z2, q.1, fun k hk => ?_⟩
        have b := (z3.2 k hk).2
        rw [q.2 k hk, big _ b.1 b.2.1]
        exact z4 k hk
  · rcases ha with rfl | rfl
    · obtain ⟨o1, o2, o3, o4⟩ := oth 6 (Or.inr rfl) (by decide)
      rw [e63]
      rcases hC.q.2.1 with z | ⟨z1, z2, z3, z4⟩
      · exact Or.inl z
      · have q := z3.same (M' := M') (W' := miv M') hC.l.2.1 (by rw [show mrv M' 7 = mrv M 7 from o3]) (by rw [show miv M' 7 = W 7 from o2]) h1 h3 o4
        refine Or.inr ⟨z1, by rw [show miv M' 6 = W 6 from o1]; exact z2, q.1, fun k hk => ?_⟩
        have b := (z3.2 k hk).2
        rw [q.2 k hk, big _ b.1 b.2.1]
        exact z4 k hk
    · exact Or.inl (by rw [e63]; exact hf)
  · rw [e 2 (by decide) (by decide) (by decide) (by decide) (by decide)]; exact hst
end
