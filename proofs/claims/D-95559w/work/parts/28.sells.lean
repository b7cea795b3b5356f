/-! a sale of the model -/
/-- the rows amid a sale: houses sold so far, people taken so far -/
def SS (E : NE) (N : NN) (V0 : MVal) (b : Nat) (pr D : Nat → Prop) (V : MVal) : Prop :=
  FrN V0 V ∧ (∀ i, i < E.1 → V 105 i = cif (pr i) (b : Int) (N.1 i)) ∧ ∀ p, p < E.2.1 → V 106 p = cif (D p) (b : Int) (N.2.1 p) ∧ V 107 p = N.2.2 p + cif (D p) 1 0
theorem FrN.rf (V : MVal) : FrN V V := fun _ _ _ _ _ => rfl
theorem FrN.tr {A B C : MVal} (h : FrN A B) (g : FrN B C) : FrN A C := fun q h1 h2 h3 h4 => (g q h1 h2 h3 h4).trans (h q h1 h2 h3 h4)
theorem FrN.wr {A B : MVal} (h : FrN A B) {p i : Nat} {x : Int} (hp : p = 105 ∨ p = 106 ∨ p = 107 ∨ p = 108) : FrN A (u2 B p i x) := fun q h1 h2 h3 h4 => by
  rw [u2_ne (by omega)]; exact h q h1 h2 h3 h4
theorem SS.iff {E : NE} {N : NN} {V0 V : MVal} {b : Nat} {pr pr2 D D2 : Nat → Prop} (h : SS E N V0 b pr D V) (h1 : ∀ i, i < E.1 → (pr i ↔ pr2 i)) (h2 : ∀ p, p < E.2.1 → (D p ↔ D2 p)) : SS E N V0 b pr2 D2 V :=
  ⟨h.1, fun i hi => by rw [← cif_iff (h1 i hi)]; exact h.2.1 i hi, fun p hp => by rw [← cif_iff (h2 p hp), ← cif_iff (h2 p hp)]; exact h.2.2 p hp⟩
theorem SS.list {E : NE} {N : NN} {V0 V : MVal} {b : Nat} {pr D : Nat → Prop} (h : SS E N V0 b pr D V) {i : Nat} {x : Int} : SS E N V0 b pr D (u2 V 108 i x) :=
  ⟨h.1.wr (by omega), fun i hi => by rw [u2_ne (by decide)]; exact h.2.1 i hi, fun p hp => by rw [u2_ne (by decide), u2_ne (by decide)]; exact h.2.2 p hp⟩
theorem SS.own {E : NE} {N : NN} {V0 V : MVal} {b : Nat} {pr D : Nat → Prop} (h : SS E N V0 b pr D V) {j : Nat} : SS E N V0 b (fun i => pr i ∨ i = j) D (u2 V 105 j b) := by
  refine ⟨h.1.wr (by omega), fun i hi => ?_, fun p hp => by rw [u2_ne (by decide), u2_ne (by decide)]; exact h.2.2 p hp⟩
  by_cases e : i = j
  · subst e
    rw [u2_at, cif_t (Or.inr rfl)]
  · rw [u2_off e, h.2.1 i hi]
    exact cif_iff ⟨Or.inl, fun z => z.resolve_right e⟩
theorem SS.mv {E : NE} {N : NN} {V0 V : MVal} {b : Nat} {pr D : Nat → Prop} (h : SS E N V0 b pr D V) {q : Nat} (hq : q < E.2.1) (hD : ¬ D q) {x : Int} (hx : x = N.2.2 q + 1) : SS E N V0 b pr (fun p => D p ∨ p = q) (u2 (u2 V 106 q b) 107 q x) := by
  refine ⟨(h.1.wr (by omega)).wr (by omega), fun i hi => by rw [u2_ne (by decide), u2_ne (by decide)]; exact h.2.1 i hi, fun p hp => ?_⟩
  rw [u2_ne (show 106 ≠ 107 by decide)]
  by_cases e : p = q
  · subst e
    rw [u2_at, u2_at, cif_t (Or.inr rfl), cif_t (Or.inr rfl)]
    exact ⟨rfl, hx⟩
  · rw [u2_off e, u2_off e, u2_ne (show 107 ≠ 106 by decide), (h.2.2 p hp).1, (h.2.2 p hp).2]
    have : D p ↔ (D p ∨ p = q) := ⟨Or.inl, fun z => z.resolve_right e⟩
    exact ⟨cif_iff this, by rw [cif_iff this]⟩
theorem NSt.fr {E : NE} {N : NN} {V0 V : MVal} (h : NSt E N V0) (g : FrN V0 V) : V 94 2 = E.1 ∧ V 94 5 = E.2.1 ∧ (∀ k, k < 3 → V 101 k = E.2.2.1 k) ∧ ∀ p, p < E.2.1 → V 104 p = E.2.2.2 p := by
  rw [g 94 (by decide) (by decide) (by decide) (by decide), g 101 (by decide) (by decide) (by decide) (by decide), g 104 (by decide) (by decide) (by decide) (by decide)]
  exact ⟨h.1, h.2.1, h.2.2.1, h.2.2.2.1⟩
theorem tb_or {t j i : Nat} (h : t.testBit i = true) : (t ||| 2 ^ j).testBit i = true := by
  rw [Nat.testBit_or, h]; rfl
theorem tb_at {t j : Nat} : (t ||| 2 ^ j).testBit j = true := by
  rw [Nat.testBit_or, Nat.testBit_two_pow, decide_eq_true rfl, Bool.or_true]
set_option maxHeartbeats 8000000 in
theorem sp_sells {d : Nat} {M : MH} {E : NE} {N : NN} {V0 : MVal} {m : Int} (hS : MS (msh M) (mrv M)) (hN : NSt E N V0) (hR : NR E m N) (hm : m ≤ 1000) {h b : Int} (hh : 0 ≤ h ∧ h ≤ 8) (hb : 0 ≤ b ∧ b ≤ 8) : MVi mX7_sells (d + 1) [vp 94, vi h, vi b] M V0 (fun z V' => z = slL E N h b ∧ NSt E (sl E N h b) V' ∧ FrN V0 V') := by
  obtain ⟨h, rfl⟩ := Int.eq_ofNat_of_zero_le hh.1
  obtain ⟨b, rfl⟩ := Int.eq_ofNat_of_zero_le hb.1
  refine mc_of (L := [vp 94, vi h, vi b, vu, vu, vu, vu, vu, vu, vu]) (by decide +kernel) (Nat.le_of_ble_eq_true rfl) rfl ?_
  obtain ⟨R1, R2, R3, R4, R5, R6⟩ := hR
  obtain ⟨n1, n2, n3, n4⟩ := hN.fr (FrN.rf V0)
  have no : ¬ ((h : Int) < E.1 ∧ (b : Int) < E.2.1) → MW mX7_sells (d + 1) 16 [vp 94, vi h, vi b, vu, vu, vu, vu, vu, vu, vu] [] (sI M V0) (Vi M (fun z V' => z = slL E N h b ∧ NSt E (sl E N h b) V' ∧ FrN V0 V')) := by
    intro g
    refine iX7_sells_16 (iX7_sells_17 ?_)
    exact ⟨V0, rfl, by unfold slL; rw [if_neg g], by unfold sl; rw [if_neg g]; exact hN, FrN.rf _⟩
  refine iX7_sells_0 (iX7_sells_1 (jX7_sells_2 hS (iX7_sells_5 (by omega) (by omega) (fun g1 => ?_) (fun g1 => ?_))))
  · exact no (by omega)
  refine iX7_sells_8 (iX7_sells_9 (jX7_sells_10 hS (iX7_sells_13 (by omega) (by omega) (fun g2 => ?_) (fun g2 => ?_))))
  rotate_left
  · exact no (by omega)
  have hE : (h : Int) < E.1 ∧ (b : Int) < E.2.1 := by omega
  have hbs : bshl 1 (h : Int) = ((2 ^ h : Nat) : Int) := by
    have := bshl_nat (a := 1) (k := h) (by omega) (by rw [Nat.one_mul]; exact Nat.pow_lt_pow_right (by decide) (by omega))
    rw [Nat.one_mul] at this
    exact this
  refine iX7_sells_18 (iX7_sells_19 (iX7_sells_20 (iX7_sells_21 (iX7_sells_22 ?_))))
  rw [hbs]
  refine iX7_sells_23 (iX7_sells_25 (jX7_sells_26 hS (iX7_sells_29 (iX7_sells_30 (jX7_sells_31 hS (iX7_sells_32 (iX7_sells_33 ?_)))))))
  have loop : ∀ f k n t : Nat, ∀ (ls : Nat → Nat) (m6 m7 m8 m9 : MV) (V : MVal), k + f = E.1 → k ≤ n → BI E.1 (V 108) t n ls (clo E N h b) → t.testBit h = true → SS E N V0 b (fun i => ∃ a, a < k ∧ ls a = i) (fun p => ∃ a, a < k ∧ mov E N.2.2 b (ls a) p) V → (∀ a i, a < k → drag E N b (ls a) i → t.testBit i = true) → MW mX7_sells (d + 1) 35 [vp 94, vi h, vi b, vi n, vi t, vi k, m6, m7, m8, m9] [] (sI M V) (Vi M (fun z V' => z = slL E N h b ∧ NSt E (sl E N h b) V' ∧ FrN V0 V')) := by
    have ends : ∀ (k n t : Nat) (ls : Nat → Nat) (m6 m7 m8 m9 : MV) (V : MVal), k = n → BI E.1 (V 108) t n ls (clo E N h b) → t.testBit h = true → SS E N V0 b (fun i => ∃ a, a < k ∧ ls a = i) (fun p => ∃ a, a < k ∧ mov E N.2.2 b (ls a) p) V → (∀ a i, a < k → drag E N b (ls a) i → t.testBit i = true) → MW mX7_sells (d + 1) 35 [vp 94, vi h, vi b, vi n, vi t, vi k, m6, m7, m8, m9] [] (sI M V) (Vi M (fun z V' => z = slL E N h b ∧ NSt E (sl E N h b) V' ∧ FrN V0 V')) := by
      intro k n t ls m6 m7 m8 m9 V h2 h3 h4 h5 h6
      have hle := h3.le
      subst h2
      refine iX7_sells_35 (iX7_sells_37 (iX7_sells_38 (by omega) (by omega) (fun g => ?_) (fun g => ?_)))
      rotate_left
      · omega
      refine iX7_sells_230 (iX7_sells_231 ?_)
      obtain ⟨b1, b2, b3, b4, b5, b6⟩ := h3
      have tc : ∀ i, t.testBit i = true ↔ clo E N h b i := fun i => ⟨b6 i, fun hc => hc (fun i => t.testBit i = true) h4 (fun j i hj hd => by
        obtain ⟨a, ha, ea⟩ := b5 j hj
        subst ea
        exact h6 a i ha hd)⟩
      have pc : ∀ i, (∃ a, a < k ∧ ls a = i) ↔ clo E N h b i := fun i => ⟨fun ⟨a, ha, ea⟩ => by subst ea; exact b6 _ (b3 a ha).2.2, fun hc => b5 i ((tc i).mpr hc)⟩
      have pd : ∀ p, (∃ a, a < k ∧ mov E N.2.2 b (ls a) p) ↔ tak E N h b p := fun p => ⟨fun ⟨a, ha, ea⟩ => ⟨ls a, b6 _ (b3 a ha).2.2, ea⟩, fun ⟨j, hj, hm⟩ => by
        obtain ⟨a, ha, ea⟩ := (pc j).mpr hj
        subst ea
        exact ⟨a, ha, hm⟩⟩
      obtain ⟨s1, s2, s3⟩ := h5.iff (fun i _ => pc i) (fun p _ => pd p)
      refine ⟨V, rfl, ?_, ?_, s1⟩
      · unfold slL
        rw [if_pos hE, b2, cnt_C E.1 (fun i _ => tc i)]
        simp only [Int.toNat_natCast]
      · unfold sl
        rw [if_pos hE]
        simp only [Int.toNat_natCast]
        obtain ⟨f1, f2, f3, f4⟩ := hN.fr s1
        exact ⟨f1, f2, f3, f4, s2, s3⟩
    intro f
    induction f with
    | zero =>
      intro k n t ls m6 m7 m8 m9 V h1 h2 h3 h4 h5 h6
      have hle := h3.le
      exact ends k n t ls m6 m7 m8 m9 V (by omega) h3 h4 h5 h6
    | succ f ih =>
      intro k n t ls m6 m7 m8 m9 V h1 h2 h3 h4 h5 h6
      by_cases hkn : k = n
      · exact ends k n t ls m6 m7 m8 m9 V hkn h3 h4 h5 h6
      have hle := h3.le
      obtain ⟨c1, c2, c3⟩ := h3.2.2.1 k (by omega)
      refine iX7_sells_35 (iX7_sells_37 (iX7_sells_38 (by omega) (by omega) (fun g => ?_) (fun g => ?_)))
      · omega
      refine iX7_sells_41 (jX7_sells_42 hS (iX7_sells_45 (jX7_sells_47 hS ⟨by omega, by omega⟩ ?_)))
      rw [Int.toNat_natCast, c1]
      refine iX7_sells_48 (iX7_sells_50 (jX7_sells_51 hS (iX7_sells_54 (iX7_sells_56 (jX7_sells_57 hS ⟨by omega, by omega⟩ (iX7_sells_58 (iX7_sells_59 ?_)))))))
      rw [Int.toNat_natCast]
      have mn : ∀ a, a < k → ∀ p, mov E N.2.2 b (ls a) p → ¬ mov E N.2.2 b (ls k) p := fun a ha p q1 q2 => by
        have e : (ls a : Int) = ls k := q1.2.2.1.symm.trans q2.2.2.1
        have := h3.2.2.2.1 a k (by omega) (by omega) (by omega)
        omega
      have ploop : ∀ fp q n t : Nat, ∀ (l2 : Nat → Nat) (m8 m9 : MV) (V : MVal), q + fp = E.2.1 → k < n → (∀ a, a ≤ k → l2 a = ls a) → BI E.1 (V 108) t n l2 (clo E N h b) → t.testBit h = true → SS E N V0 b (fun i => ∃ a, a < k + 1 ∧ ls a = i) (fun p => (∃ a, a < k ∧ mov E N.2.2 b (ls a) p) ∨ (p < q ∧ mov E N.2.2 b (ls k) p)) V → (∀ a i, a < k → drag E N b (ls a) i → t.testBit i = true) → (∀ p i, p < q → mov E N.2.2 b (ls k) p → i < E.1 → E.2.2.1 1 = 1 → N.1 i = (p : Int) → t.testBit i = true) → MW mX7_sells (d + 1) 61 [vp 94, vi h, vi b, vi n, vi t, vi k, vi (ls k), vi q, m8, m9] [] (sI M V) (Vi M (fun z V' => z = slL E N h b ∧ NSt E (sl E N h b) V' ∧ FrN V0 V')) := by
        intro fp
        induction fp with
        | zero =>
          intro q n t l2 m8 m9 V p1 p2 p3 p4 p5 p6 p7 p8
          obtain ⟨f1, f2, f3, f4⟩ := hN.fr p6.1
          have hle2 := p4.le
          refine iX7_sells_61 (iX7_sells_63 (jX7_sells_64 hS (iX7_sells_67 (by omega) (by omega) (fun g => ?_) (fun g => ?_))))
          rotate_left
          · omega
          refine iX7_sells_224 (iX7_sells_227 ?_)
          refine ih (k + 1) n t l2 _ _ _ _ V (by omega) (by omega) p4 p5 (p6.iff (fun i _ => ?_) (fun p hp => ?_)) (fun a i ha hd => ?_)
          · exact ⟨fun ⟨a, ha, ea⟩ => ⟨a, ha, by rw [p3 a (by omega)]; exact ea⟩, fun ⟨a, ha, ea⟩ => ⟨a, ha, by rw [← p3 a (by omega)]; exact ea⟩⟩
          · refine ⟨fun z => ?_, fun ⟨a, ha, ea⟩ => ?_⟩
            · rcases z with ⟨a, ha, ea⟩ | ⟨z1, z2⟩
              · exact ⟨a, by omega, by rw [p3 a (by omega)]; exact ea⟩
              · exact ⟨k, by omega, by rw [p3 k (by omega)]; exact z2⟩
            · rw [p3 a (by omega)] at ea
              by_cases e : a = k
              · subst e; exact Or.inr ⟨by omega, ea⟩
              · exact Or.inl ⟨a, by omega, ea⟩
          · rw [p3 a (by omega)] at hd
            by_cases e : a = k
            · subst e
              obtain ⟨d1, d2, p, d3, d4⟩ := hd
              exact p8 p i (by have := d3.1; omega) d3 d1 d2 d4
            · exact p7 a i (by omega) hd
        | succ fp ihp =>
          intro q n t l2 m8 m9 V p1 p2 p3 p4 p5 p6 p7 p8
          obtain ⟨f1, f2, f3, f4⟩ := hN.fr p6.1
          have hle2 := p4.le
          have hq : q < E.2.1 := by omega
          have e0 := f3 0 (by omega)
          have e1 := f3 1 (by omega)
          have e2 := f3 2 (by omega)
          have r0 := R3 0 (by omega)
          have r1 := R3 1 (by omega)
          have r2 := R3 2 (by omega)
          have ew := f4 q hq
          have rw4 := R4 q hq
          have es := (p6.2.2 q hq).2
          have r6 := (R6 q hq).2
          have eq : ((q : Int)).toNat = q := Int.toNat_natCast q
          have c3 : cif ((∃ a, a < k ∧ mov E N.2.2 b (ls a) q) ∨ (q < q ∧ mov E N.2.2 b (ls k) q)) (1 : Int) 0 = 0 ∨ cif ((∃ a, a < k ∧ mov E N.2.2 b (ls a) q) ∨ (q < q ∧ mov E N.2.2 b (ls k) q)) (1 : Int) 0 = 1 := by
            by_cases e : (∃ a, a < k ∧ mov E N.2.2 b (ls a) q) ∨ (q < q ∧ mov E N.2.2 b (ls k) q)
            · rw [cif_t e]; exact Or.inr rfl
            · rw [cif_f e]; exact Or.inl rfl
          have nD : E.2.2.2 q = (ls k : Int) → ¬ ((∃ a, a < k ∧ mov E N.2.2 b (ls a) q) ∨ (q < q ∧ mov E N.2.2 b (ls k) q)) := by
            rintro w (⟨a, ha, ea⟩ | ⟨z, _⟩)
            · have e : (ls a : Int) = ls k := ea.2.2.1.symm.trans w
              have := h3.2.2.2.1 a k (by omega) (by omega) (by omega)
              omega
            · omega
          have es0 : E.2.2.2 q = (ls k : Int) → V 107 q = N.2.2 q := fun w => by
            rw [es, cif_f (nD w)]; omega
          refine iX7_sells_61 (iX7_sells_63 (jX7_sells_64 hS (iX7_sells_67 (by omega) (by omega) (fun g => ?_) (fun g => ?_))))
          · omega
          have nxt : ¬ mov E N.2.2 b (ls k) q → ∀ m8 m9 : MV, MW mX7_sells (d + 1) 218 [vp 94, vi h, vi b, vi n, vi t, vi k, vi (ls k), vi q, m8, m9] [] (sI M V) (Vi M (fun z V' => z = slL E N h b ∧ NSt E (sl E N h b) V' ∧ FrN V0 V')) := by
            intro nm m8 m9
            refine iX7_sells_218 (iX7_sells_221 ?_)
            refine ihp (q + 1) n t l2 m8 m9 V (by omega) p2 p3 p4 p5 (p6.iff (fun _ _ => Iff.rfl) (fun p hp => ?_)) p7 (fun p i hp z1 z2 z3 z4 => ?_)
            · by_cases e : p = q
              · subst e
                exact ⟨fun z => z.imp id (fun y => absurd y.1 (by omega)), fun z => z.imp id (fun y => absurd y.2 nm)⟩
              · exact ⟨fun z => z.imp id (fun y => ⟨by omega, y.2⟩), fun z => z.imp id (fun y => ⟨by omega, y.2⟩)⟩
            · by_cases e : p = q
              · subst e; exact absurd z1 nm
              · exact p8 p i (by omega) z1 z2 z3 z4
          have mv : ∀ z : Int, (z = 1 ∧ mov E N.2.2 b (ls k) q) ∨ (z = 0 ∧ ¬ mov E N.2.2 b (ls k) q) → MW mX7_sells (d + 1) 122 [vp 94, vi h, vi b, vi n, vi t, vi k, vi (ls k), vi q, m8, m9] [vi z] (sI M V) (Vi M (fun z V' => z = slL E N h b ∧ NSt E (sl E N h b) V' ∧ FrN V0 V')) := by
            intro z hz
            refine iX7_sells_122 (iX7_sells_124 (iX7_sells_126 (by omega) (fun g0 => ?_) (fun g0 => ?_)))
            · exact nxt (by rcases hz with hz | hz; omega; exact hz.2) _ _
            have hmv : mov E N.2.2 b (ls k) q := by
              rcases hz with hz | hz
              · exact hz.2
              · omega
            have hz1 : z = 1 := by omega
            subst hz1
            have w := hmv.2.2.1
            have hs := es0 w
            refine iX7_sells_129 (jX7_sells_130 hS (iX7_sells_133 (iX7_sells_135 (jX7_sells_136 hS ⟨by omega, by omega⟩ (iX7_sells_137 (jX7_sells_138 hS (iX7_sells_141 (iX7_sells_143 (jX7_sells_144 hS ⟨by omega, by omega⟩ ?_)))))))))
            rw [eq, u2_ne (show 107 ≠ 106 by decide), hs]
            refine iX7_sells_145 (iX7_sells_146 (jX7_sells_147 hS ⟨by omega, by omega⟩ (iX7_sells_148 (iX7_sells_149 ?_))))
            rw [eq]
            have iloop : ∀ fi i n t : Nat, ∀ (l2 : Nat → Nat) (V : MVal), i + fi = E.1 → k < n → (∀ a, a ≤ k → l2 a = ls a) → BI E.1 (V 108) t n l2 (clo E N h b) → t.testBit h = true → SS E N V0 b (fun i => ∃ a, a < k + 1 ∧ ls a = i) (fun p => ((∃ a, a < k ∧ mov E N.2.2 b (ls a) p) ∨ (p < q ∧ mov E N.2.2 b (ls k) p)) ∨ p = q) V → (∀ a i, a < k → drag E N b (ls a) i → t.testBit i = true) → (∀ p i, p < q → mov E N.2.2 b (ls k) p → i < E.1 → E.2.2.1 1 = 1 → N.1 i = (p : Int) → t.testBit i = true) → (∀ j, j < i → E.2.2.1 1 = 1 → N.1 j = (q : Int) → t.testBit j = true) → MW mX7_sells (d + 1) 151 [vp 94, vi h, vi b, vi n, vi t, vi k, vi (ls k), vi q, vi 1, vi i] [] (sI M V) (Vi M (fun z V' => z = slL E N h b ∧ NSt E (sl E N h b) V' ∧ FrN V0 V')) := by
              have iend : ∀ i n t : Nat, ∀ (l2 : Nat → Nat) (V : MVal), k < n → (∀ a, a ≤ k → l2 a = ls a) → BI E.1 (V 108) t n l2 (clo E N h b) → t.testBit h = true → SS E N V0 b (fun i => ∃ a, a < k + 1 ∧ ls a = i) (fun p => ((∃ a, a < k ∧ mov E N.2.2 b (ls a) p) ∨ (p < q ∧ mov E N.2.2 b (ls k) p)) ∨ p = q) V → (∀ a i, a < k → drag E N b (ls a) i → t.testBit i = true) → (∀ p i, p < q → mov E N.2.2 b (ls k) p → i < E.1 → E.2.2.1 1 = 1 → N.1 i = (p : Int) → t.testBit i = true) → (∀ j, j < E.1 → E.2.2.1 1 = 1 → N.1 j = (q : Int) → t.testBit j = true) → MW mX7_sells (d + 1) 218 [vp 94, vi h, vi b, vi n, vi t, vi k, vi (ls k), vi q, vi 1, vi i] [] (sI M V) (Vi M (fun z V' => z = slL E N h b ∧ NSt E (sl E N h b) V' ∧ FrN V0 V')) := by
                intro i n t l2 V p2 p3 p4 p5 p6 p7 p8 p9
                refine iX7_sells_218 (iX7_sells_221 ?_)
                refine ihp (q + 1) n t l2 _ _ V (by omega) p2 p3 p4 p5 (p6.iff (fun _ _ => Iff.rfl) (fun p hp => ?_)) p7 (fun p i hp z1 z2 z3 z4 => ?_)
                · by_cases e : p = q
                  · subst e
                    exact ⟨fun _ => Or.inr ⟨by omega, hmv⟩, fun _ => Or.inr rfl⟩
                  · refine ⟨fun z => ?_, fun z => ?_⟩
                    · rcases z with (z | z) | z
                      · exact Or.inl z
                      · exact Or.inr ⟨by omega, z.2⟩
                      · exact absurd z e
                    · rcases z with z | z
                      · exact Or.inl (Or.inl z)
                      · exact Or.inl (Or.inr ⟨by omega, z.2⟩)
                · by_cases e : p = q
                  · subst e; exact p9 i z2 z3 z4
                  · exact p8 p i (by omega) z1 z2 z3 z4
              intro fi
              induction fi with
              | zero =>
                intro i n t l2 V q1 p2 p3 p4 p5 p6 p7 p8 p9
                obtain ⟨f1, f2, f3, f4⟩ := hN.fr p6.1
                refine iX7_sells_151 (iX7_sells_153 (jX7_sells_154 hS (iX7_sells_157 (by omega) (by omega) (fun g => ?_) (fun g => ?_))))
                rotate_left
                · omega
                exact iend _ _ _ _ _ p2 p3 p4 p5 p6 p7 p8 (fun j hj => p9 j (by omega))
              | succ fi ihi =>
                intro i n t l2 V q1 p2 p3 p4 p5 p6 p7 p8 p9
                obtain ⟨f1, f2, f3, f4⟩ := hN.fr p6.1
                have e1 := f3 1 (by omega)
                have hi : i < E.1 := by omega
                have ei : ((i : Int)).toNat = i := Int.toNat_natCast i
                have ht := p4.1
                have ht2 : t < 2 ^ 31 := Nat.lt_of_lt_of_le ht (Nat.pow_le_pow_right (by decide) (by omega))
                have ht3 : t < 256 := Nat.lt_of_lt_of_le ht (Nat.pow_le_pow_right (n := 2) (by decide) R1)
                have hle3 := p4.le
                have ro := R5 i hi
                have eo := p6.2.1 i hi
                have eo2 : V 105 i = (b : Int) ∨ V 105 i = N.1 i := by
                  by_cases e : ∃ a, a < k + 1 ∧ ls a = i
                  · rw [cif_t e] at eo; exact Or.inl eo
                  · rw [cif_f e] at eo; exact Or.inr eo
                refine iX7_sells_151 (iX7_sells_153 (jX7_sells_154 hS (iX7_sells_157 (by omega) (by omega) (fun g => ?_) (fun g => ?_))))
                · omega
                refine iX7_sells_160 (jX7_sells_161 hS (iX7_sells_164 (jX7_sells_165 hS (iX7_sells_166 (iX7_sells_167 (by omega) (by omega) (fun g3 => ?_) (fun g3 => ?_))))))
                · exact iend _ _ _ _ _ p2 p3 p4 p5 p6 p7 p8 (fun j hj w1 _ => by omega)
                refine iX7_sells_170 (jX7_sells_171 hS (iX7_sells_174 (jX7_sells_176 hS ⟨by omega, by omega⟩ ?_)))
                rw [ei]
                have skip : (E.2.2.1 1 = 1 → N.1 i = (q : Int) → t.testBit i = true) → MW mX7_sells (d + 1) 212 [vp 94, vi h, vi b, vi n, vi t, vi k, vi (ls k), vi q, vi 1, vi i] [] (sI M V) (Vi M (fun z V' => z = slL E N h b ∧ NSt E (sl E N h b) V' ∧ FrN V0 V')) := by
                  intro hw
                  refine iX7_sells_212 (iX7_sells_215 ?_)
                  refine ihi (i + 1) n t l2 V (by omega) p2 p3 p4 p5 p6 p7 p8 (fun j hj w1 w2 => ?_)
                  by_cases e : j = i
                  · subst e; exact hw w1 w2
                  · exact p9 j (by omega) w1 w2
                have bq : (b : Int) ≠ q := fun e => hmv.2.2.2.1 (by omega)
                refine iX7_sells_177 (iX7_sells_179 (by omega) (by omega) (fun g4 => ?_) (fun g4 => ?_))
                · refine skip (fun w1 w2 => ?_)
                  by_cases e : ∃ a, a < k + 1 ∧ ls a = i
                  · obtain ⟨a, ha, ea⟩ := e
                    have := (p4.2.2.1 a (by omega)).2.2
                    rw [p3 a (by omega), ea] at this
                    exact this
                  · rw [cif_f e] at eo
                    omega
                have eN : N.1 i = (q : Int) := by omega
                refine iX7_sells_182 (iX7_sells_184 ?_)
                refine jX7_sells_186 (sp_X7_isIn ht2 (show i < 32 by omega)) ?_
                refine iX7_sells_189 bzR (fun h0 => have g5 := bz_ne h0; ?_) (fun h0 => have g5 := bz_eq h0; ?_)
                · exact skip (fun _ _ => g5)
                have g5 : t.testBit i = false := by
                  cases hb2 : t.testBit i with
                  | false => rfl
                  | true => exact absurd hb2 g5
                have hbi : bshl 1 (i : Int) = ((2 ^ i : Nat) : Int) := by
                  have := bshl_nat (a := 1) (k := i) (by omega) (by rw [Nat.one_mul]; exact Nat.pow_lt_pow_right (by decide) (by omega))
                  rw [Nat.one_mul] at this
                  exact this
                have p31 : 2 ^ i < 2 ^ 31 := Nat.pow_lt_pow_right (by decide) (by omega)
                refine iX7_sells_192 (iX7_sells_194 (iX7_sells_195 (iX7_sells_197 (iX7_sells_198 ?_))))
                rw [hbi, bor_nat ht2 p31]
                have rm := p4.room hi g5
                refine iX7_sells_199 (iX7_sells_201 (jX7_sells_202 hS (iX7_sells_205 (iX7_sells_206 (jX7_sells_208 hS ⟨by omega, by omega⟩ (iX7_sells_209 (iX7_sells_212 (iX7_sells_215 ?_))))))))
                rw [Int.toNat_natCast]
                have cj : clo E N h b i := clo_s (p4.2.2.2.2.2 (ls k) (by have := (p4.2.2.1 k p2).2.2; rw [p3 k (by omega)] at this; exact this)) ⟨hi, by omega, q, hmv, eN⟩
                refine ihi (i + 1) (n + 1) (t ||| 2 ^ i) (fun a => if a = n then i else l2 a) _ (by omega) (by omega) (fun a ha => ?_) (p4.add hi g5 cj u2_at (fun a ha => u2_off ha)) (tb_or p5) p6.list (fun a j ha hd => tb_or (p7 a j ha hd)) (fun p j hp w1 w2 w3 w4 => tb_or (p8 p j hp w1 w2 w3 w4)) (fun j hj w1 w2 => ?_)
                · simp only [if_neg (show ¬ a = n by omega)]
                  exact p3 a ha
                · by_cases e : j = i
                  · subst e; exact tb_at
                  · exact tb_or (p9 j (by omega) w1 w2)
            refine iloop E.1 0 n t l2 _ (by omega) p2 p3 (by rw [u2_ne (by decide), u2_ne (by decide)]; exact p4) p5 (p6.mv hq (nD w) rfl) p7 p8 (fun j hj => absurd hj (by omega))
          refine iX7_sells_70 (jX7_sells_71 hS (iX7_sells_74 (jX7_sells_75 hS (iX7_sells_76 (iX7_sells_77 (by omega) (by omega) (fun g3 => ?_) (fun g3 => ?_))))))
          · refine iX7_sells_121 ?_
            exact mv 0 (Or.inr ⟨rfl, fun z => by have := z.2.1; omega⟩)
          refine iX7_sells_80 (jX7_sells_81 hS (iX7_sells_84 (jX7_sells_86 hS ⟨by omega, by omega⟩ ?_)))
          rw [eq]
          refine iX7_sells_87 (iX7_sells_89 (by omega) (by omega) (fun g4 => ?_) (fun g4 => ?_))
          · refine iX7_sells_121 ?_
            exact mv 0 (Or.inr ⟨rfl, fun z => by have := z.2.2.1; omega⟩)
          refine iX7_sells_92 (iX7_sells_94 (iX7_sells_95 (by omega) (by omega) (fun g5 => ?_) (fun g5 => ?_)))
          · refine iX7_sells_121 ?_
            exact mv 0 (Or.inr ⟨rfl, fun z => by have := z.2.2.2.1; omega⟩)
          refine iX7_sells_98 (jX7_sells_99 hS (iX7_sells_102 (jX7_sells_103 hS (iX7_sells_104 (by omega) (fun g6 => ?_) (fun g6 => ?_)))))
          · refine iX7_sells_117 (iX7_sells_118 ?_)
            exact mv 1 (Or.inl ⟨rfl, hq, by omega, by omega, by omega, Or.inl (by omega)⟩)
          refine iX7_sells_107 (jX7_sells_108 hS (iX7_sells_111 (jX7_sells_113 hS ⟨by omega, by omega⟩ ?_)))
          rw [eq]
          have es1 := es0 (by omega)
          refine iX7_sells_114 (by omega) (fun g7 => ?_) (fun g7 => ?_)
          · refine iX7_sells_121 ?_
            exact mv 0 (Or.inr ⟨rfl, fun z => by rcases z.2.2.2.2 with y | y <;> omega⟩)
          · refine iX7_sells_117 (iX7_sells_118 ?_)
            exact mv 1 (Or.inl ⟨rfl, hq, by omega, by omega, by omega, Or.inr (by omega)⟩)
      refine ploop E.2.1 0 n t ls _ _ _ (by omega) (by omega) (fun _ _ => rfl) (by rw [u2_ne (by decide)]; exact h3) h4 (h5.own.iff (fun i _ => ?_) (fun p _ => ?_)) h6 (fun p i hp => absurd hp (by omega))
      · refine ⟨fun z => ?_, fun ⟨a, ha, ea⟩ => ?_⟩
        · rcases z with ⟨a, ha, ea⟩ | z
          · exact ⟨a, by omega, ea⟩
          · exact ⟨k, by omega, z.symm⟩
        · by_cases e : a = k
          · subst e; exact Or.inr ea.symm
          · exact Or.inl ⟨a, by omega, ea⟩
      · exact ⟨Or.inl, fun z => z.elim id (fun y => absurd y.1 (by omega))⟩
  have hb0 : BI E.1 (u2 V0 108 0 (h : Int) 108) (2 ^ h) 1 (fun _ => h) (clo E N h b) := by
    have c0 : ∀ n, cnt 0 n = 0 := fun n => by
      induction n with
      | zero => rfl
      | succ n ih => show cnt 0 n + 0 / 2 ^ n % 2 = 0; rw [ih, Nat.zero_div]
    have c1 := cnt_set (t := 0) (j := h) (Nat.zero_testBit _) E.1
    rw [Nat.zero_or, c0, if_pos (by omega)] at c1
    have tb : ∀ i, (2 ^ h).testBit i = true → h = i := fun i hi => by
      rw [Nat.testBit_two_pow] at hi
      exact of_decide_eq_true hi
    exact ⟨Nat.pow_lt_pow_right (by decide) (by omega), c1.symm, fun a ha => ⟨by
      have : a = 0 := by omega
      subst this
      exact u2_at, (show h < E.1 by omega), Nat.testBit_two_pow_self⟩, fun a b ha hb _ => by omega, fun i hi => ⟨0, by omega, tb i hi⟩, fun i hi => by
      have := tb i hi
      subst this
      exact clo_h⟩
  refine loop E.1 0 1 (2 ^ h) (fun _ => h) _ _ _ _ _ (by omega) (by omega) hb0 (by rw [Nat.testBit_two_pow_self]) ⟨(FrN.rf V0).wr (by omega), fun i hi => ?_, fun p hp => ?_⟩ (fun a i ha => absurd ha (by omega))
  · rw [u2_ne (by decide), cif_f (fun ⟨a, ha, _⟩ => by omega)]
    exact hN.2.2.2.2.1 i hi
  · rw [u2_ne (by decide), u2_ne (by decide), cif_f (fun ⟨a, ha, _⟩ => by omega), cif_f (fun ⟨a, ha, _⟩ => by omega)]
    have := hN.2.2.2.2.2 p hp
    exact ⟨this.1, by rw [this.2]; omega⟩
