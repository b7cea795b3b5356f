/-! the model's constructor -/
theorem mdR_lt {k q : Nat} (h : mdR k = some q) : k < 32 := by
  unfold mdR at h
  split at h <;> first | decide | cases h
theorem mdR_inj {a b q : Nat} (h1 : mdR a = some q) (h2 : mdR b = some q) : a = b := by
  have key : ∀ a, a < 32 → ∀ b, b < 32 → (mdR a).isSome = true → mdR a = mdR b → a = b := by decide
  exact key a (mdR_lt h1) b (mdR_lt h2) (by rw [h1]; rfl) (h1.trans h2.symm)
/-- so many of its rows are made -/
def In (M0 : MH) (i t : Nat) (M : MH) : Prop := mhn M = 95 + i ∧ mhs M = mhs M0 + t ∧ msh M 94 = (10, 33) ∧ (∀ q, 95 ≤ q → q < 95 + i → msh M q = mdS q ∧ ∀ j, miv M q j = 0) ∧ (∀ k q, mdR k = some q → q < 95 + i → mrv M 94 k = some q) ∧ (∀ k, mdR k = none → mrv M 94 k = none) ∧ (∀ q, q < 94 → msh M q = msh M0 q ∧ miv M q = miv M0 q ∧ mrv M q = mrv M0 q) ∧ miv M 94 = miv M0 94
theorem In.step {M0 M : MH} {i t k kd n : Nat} (i2 t2 : Nat) (h : In M0 i t M) (hk : mdR k = some (95 + i)) (hs : mdS (95 + i) = (kd, n)) (ei : i + 1 = i2) (et : t + n = t2) : In M0 i2 t2 (wR (wN M kd n) 94 k (some (mhn M))) := by
  subst ei et
  obtain ⟨h1, h2, h3, h4, h5, h6, h7, h8⟩ := h
  have e1 : ∀ q, q ≠ 95 + i → msh (wR (wN M kd n) 94 k (some (mhn M))) q = msh M q := fun q hq => by
    show (if q = mhn M then (kd, n) else msh M q) = msh M q
    rw [if_neg (by omega)]
  have e2 : ∀ q, q ≠ 95 + i → miv (wR (wN M kd n) 94 k (some (mhn M))) q = miv M q := fun q hq => by
    funext j
    show (if q = mhn M then 0 else miv M q j) = miv M q j
    rw [if_neg (by omega)]
  have e3 : ∀ q j, q ≠ 95 + i → ¬ (q = 94 ∧ j = k) → mrv (wR (wN M kd n) 94 k (some (mhn M))) q j = mrv M q j := fun q j hq hn => by
    show (if q = 94 ∧ j = k then some (mhn M) else if q = mhn M then none else mrv M q j) = mrv M q j
    rw [if_neg hn, if_neg (by omega)]
  refine ⟨?_, ?_, ?_, ?_, ?_, ?_, ?_, ?_⟩
  · show mhn M + 1 = _; omega
  · show mhs M + n = _; omega
  · rw [e1 94 (by omega)]; exact h3
  · intro q q1 q2
    by_cases e : q = 95 + i
    · subst e
      refine ⟨?_, fun j => ?_⟩
      · show (if 95 + i = mhn M then (kd, n) else msh M (95 + i)) = _
        rw [if_pos (by omega), hs]
      · show (if 95 + i = mhn M then 0 else miv M (95 + i) j) = 0
        rw [if_pos (by omega)]
    · rw [e1 q e, e2 q e]; exact h4 q q1 (by omega)
  · intro k2 q q1 q2
    by_cases e : q = 95 + i
    · by_cases e4 : k2 = k
      · subst e4
        show (if 94 = 94 ∧ k2 = k2 then some (mhn M) else _) = _
        rw [if_pos ⟨rfl, rfl⟩, h1, ← e]
      · exact absurd (mdR_inj (by rw [q1, e]) hk) e4
    · rw [e3 94 k2 (by omega) (fun z => by rw [z.2, hk] at q1; injection q1 with q1; exact e q1.symm)]
      exact h5 k2 q q1 (by omega)
  · intro k2 q1
    rw [e3 94 k2 (by omega) (fun z => by rw [z.2, hk] at q1; cases q1)]
    exact h6 k2 q1
  · intro q hq
    refine ⟨?_, ?_, ?_⟩
    · rw [e1 q (by omega)]; exact (h7 q hq).1
    · rw [e2 q (by omega)]; exact (h7 q hq).2.1
    · funext j
      rw [e3 q j (by omega) (by omega)]; rw [(h7 q hq).2.2]
  · rw [e2 94 (by omega)]; exact h8

theorem In.cap {M0 M : MH} {i t : Nat} (h : In M0 i t M) (hi : i ≤ 1000) : mhn M + 1 ≤ mNC := by
  rw [h.1]; exact Nat.le_trans (show 95 + i + 1 ≤ 2000 by omega) (by decide)
theorem In.cas {M0 M : MH} {i t n : Nat} (h : In M0 i t M) (h0 : mhs M0 ≤ 100000) (hi : t + n ≤ 100000) : mhs M + n ≤ mNS := by
  rw [h.2.1]; exact Nat.le_trans (show mhs M0 + t + n ≤ 200000 by omega) (by decide)
theorem In.cls {M0 M : MH} {i t kd n : Nat} (h : In M0 i t M) : (msh (wN M kd n) 94).1 = 10 := by
  show (if 94 = mhn M then (kd, n) else msh M 94).1 = 10
  rw [if_neg (by have := h.1; omega), h.2.2.1]
theorem in7_0 {d : Nat} {M0 M : MH} {Q : Out → MH → Prop} (s : In M0 0 0 M) (h0 : mhs M0 ≤ 100000) (k : ∀ M', In M0 1 2 M' → MW mX7_init d 11 [vp 94, vu] [] M' Q) : MW mX7_init d 4 [vp 94, vu] [] M Q := by
  refine iX7_init_4 (iX7_init_5 (iX7_init_6 (n := 2) rfl (by decide) (s.cap (by decide)) (s.cas h0 (by decide)) (iX7_init_8 s.cls (k _ (In.step 1 2 s rfl rfl rfl rfl)))))
theorem in7_1 {d : Nat} {M0 M : MH} {Q : Out → MH → Prop} (s : In M0 1 2 M) (h0 : mhs M0 ≤ 100000) (k : ∀ M', In M0 2 62 M' → MW mX7_init d 19 [vp 94, vu] [] M' Q) : MW mX7_init d 11 [vp 94, vu] [] M Q := by
  refine iX7_init_11 (iX7_init_12 (iX7_init_14 (n := 60) rfl (by decide) (s.cap (by decide)) (s.cas h0 (by decide)) (iX7_init_16 s.cls (k _ (In.step 2 62 s rfl rfl rfl rfl)))))
theorem in7_2 {d : Nat} {M0 M : MH} {Q : Out → MH → Prop} (s : In M0 2 62 M) (h0 : mhs M0 ≤ 100000) (k : ∀ M', In M0 3 71 M' → MW mX7_init d 27 [vp 94, vu] [] M' Q) : MW mX7_init d 19 [vp 94, vu] [] M Q := by
  refine iX7_init_19 (iX7_init_20 (iX7_init_22 (n := 9) rfl (by decide) (s.cap (by decide)) (s.cas h0 (by decide)) (iX7_init_24 s.cls (k _ (In.step 3 71 s rfl rfl rfl rfl)))))
theorem in7_3 {d : Nat} {M0 M : MH} {Q : Out → MH → Prop} (s : In M0 3 71 M) (h0 : mhs M0 ≤ 100000) (k : ∀ M', In M0 4 80 M' → MW mX7_init d 35 [vp 94, vu] [] M' Q) : MW mX7_init d 27 [vp 94, vu] [] M Q := by
  refine iX7_init_27 (iX7_init_28 (iX7_init_30 (n := 9) rfl (by decide) (s.cap (by decide)) (s.cas h0 (by decide)) (iX7_init_32 s.cls (k _ (In.step 4 80 s rfl rfl rfl rfl)))))
theorem in7_4 {d : Nat} {M0 M : MH} {Q : Out → MH → Prop} (s : In M0 4 80 M) (h0 : mhs M0 ≤ 100000) (k : ∀ M', In M0 5 89 M' → MW mX7_init d 43 [vp 94, vu] [] M' Q) : MW mX7_init d 35 [vp 94, vu] [] M Q := by
  refine iX7_init_35 (iX7_init_36 (iX7_init_38 (n := 9) rfl (by decide) (s.cap (by decide)) (s.cas h0 (by decide)) (iX7_init_40 s.cls (k _ (In.step 5 89 s rfl rfl rfl rfl)))))
theorem in7_5 {d : Nat} {M0 M : MH} {Q : Out → MH → Prop} (s : In M0 5 89 M) (h0 : mhs M0 ≤ 100000) (k : ∀ M', In M0 6 98 M' → MW mX7_init d 51 [vp 94, vu] [] M' Q) : MW mX7_init d 43 [vp 94, vu] [] M Q := by
  refine iX7_init_43 (iX7_init_44 (iX7_init_46 (n := 9) rfl (by decide) (s.cap (by decide)) (s.cas h0 (by decide)) (iX7_init_48 s.cls (k _ (In.step 6 98 s rfl rfl rfl rfl)))))
theorem in7_6 {d : Nat} {M0 M : MH} {Q : Out → MH → Prop} (s : In M0 6 98 M) (h0 : mhs M0 ≤ 100000) (k : ∀ M', In M0 7 101 M' → MW mX7_init d 58 [vp 94, vu] [] M' Q) : MW mX7_init d 51 [vp 94, vu] [] M Q := by
  refine iX7_init_51 (iX7_init_52 (iX7_init_53 (n := 3) rfl (by decide) (s.cap (by decide)) (s.cas h0 (by decide)) (iX7_init_55 s.cls (k _ (In.step 7 101 s rfl rfl rfl rfl)))))
theorem in7_7 {d : Nat} {M0 M : MH} {Q : Out → MH → Prop} (s : In M0 7 101 M) (h0 : mhs M0 ≤ 100000) (k : ∀ M', In M0 8 113 M' → MW mX7_init d 66 [vp 94, vu] [] M' Q) : MW mX7_init d 58 [vp 94, vu] [] M Q := by
  refine iX7_init_58 (iX7_init_59 (iX7_init_61 (n := 12) rfl (by decide) (s.cap (by decide)) (s.cas h0 (by decide)) (iX7_init_63 s.cls (k _ (In.step 8 113 s rfl rfl rfl rfl)))))
theorem in7_8 {d : Nat} {M0 M : MH} {Q : Out → MH → Prop} (s : In M0 8 113 M) (h0 : mhs M0 ≤ 100000) (k : ∀ M', In M0 9 125 M' → MW mX7_init d 74 [vp 94, vu] [] M' Q) : MW mX7_init d 66 [vp 94, vu] [] M Q := by
  refine iX7_init_66 (iX7_init_67 (iX7_init_69 (n := 12) rfl (by decide) (s.cap (by decide)) (s.cas h0 (by decide)) (iX7_init_71 s.cls (k _ (In.step 9 125 s rfl rfl rfl rfl)))))
theorem in7_9 {d : Nat} {M0 M : MH} {Q : Out → MH → Prop} (s : In M0 9 125 M) (h0 : mhs M0 ≤ 100000) (k : ∀ M', In M0 10 134 M' → MW mX7_init d 82 [vp 94, vu] [] M' Q) : MW mX7_init d 74 [vp 94, vu] [] M Q := by
  refine iX7_init_74 (iX7_init_75 (iX7_init_77 (n := 9) rfl (by decide) (s.cap (by decide)) (s.cas h0 (by decide)) (iX7_init_79 s.cls (k _ (In.step 10 134 s rfl rfl rfl rfl)))))
theorem in7_10 {d : Nat} {M0 M : MH} {Q : Out → MH → Prop} (s : In M0 10 134 M) (h0 : mhs M0 ≤ 100000) (k : ∀ M', In M0 11 143 M' → MW mX7_init d 90 [vp 94, vu] [] M' Q) : MW mX7_init d 82 [vp 94, vu] [] M Q := by
  refine iX7_init_82 (iX7_init_83 (iX7_init_85 (n := 9) rfl (by decide) (s.cap (by decide)) (s.cas h0 (by decide)) (iX7_init_87 s.cls (k _ (In.step 11 143 s rfl rfl rfl rfl)))))
theorem in7_11 {d : Nat} {M0 M : MH} {Q : Out → MH → Prop} (s : In M0 11 143 M) (h0 : mhs M0 ≤ 100000) (k : ∀ M', In M0 12 152 M' → MW mX7_init d 98 [vp 94, vu] [] M' Q) : MW mX7_init d 90 [vp 94, vu] [] M Q := by
  refine iX7_init_90 (iX7_init_91 (iX7_init_93 (n := 9) rfl (by decide) (s.cap (by decide)) (s.cas h0 (by decide)) (iX7_init_95 s.cls (k _ (In.step 12 152 s rfl rfl rfl rfl)))))
theorem in7_12 {d : Nat} {M0 M : MH} {Q : Out → MH → Prop} (s : In M0 12 152 M) (h0 : mhs M0 ≤ 100000) (k : ∀ M', In M0 13 161 M' → MW mX7_init d 106 [vp 94, vu] [] M' Q) : MW mX7_init d 98 [vp 94, vu] [] M Q := by
  refine iX7_init_98 (iX7_init_99 (iX7_init_101 (n := 9) rfl (by decide) (s.cap (by decide)) (s.cas h0 (by decide)) (iX7_init_103 s.cls (k _ (In.step 13 161 s rfl rfl rfl rfl)))))
theorem in7_13 {d : Nat} {M0 M : MH} {Q : Out → MH → Prop} (s : In M0 13 161 M) (h0 : mhs M0 ≤ 100000) (k : ∀ M', In M0 14 170 M' → MW mX7_init d 114 [vp 94, vu] [] M' Q) : MW mX7_init d 106 [vp 94, vu] [] M Q := by
  refine iX7_init_106 (iX7_init_107 (iX7_init_109 (n := 9) rfl (by decide) (s.cap (by decide)) (s.cas h0 (by decide)) (iX7_init_111 s.cls (k _ (In.step 14 170 s rfl rfl rfl rfl)))))
theorem in7_14 {d : Nat} {M0 M : MH} {Q : Out → MH → Prop} (s : In M0 14 170 M) (h0 : mhs M0 ≤ 100000) (k : ∀ M', In M0 15 234 M' → MW mX7_init d 122 [vp 94, vu] [] M' Q) : MW mX7_init d 114 [vp 94, vu] [] M Q := by
  refine iX7_init_114 (iX7_init_115 (iX7_init_117 (n := 64) rfl (by decide) (s.cap (by decide)) (s.cas h0 (by decide)) (iX7_init_119 s.cls (k _ (In.step 15 234 s rfl rfl rfl rfl)))))
theorem in7_15 {d : Nat} {M0 M : MH} {Q : Out → MH → Prop} (s : In M0 15 234 M) (h0 : mhs M0 ≤ 100000) (k : ∀ M', In M0 16 298 M' → MW mX7_init d 130 [vp 94, vu] [] M' Q) : MW mX7_init d 122 [vp 94, vu] [] M Q := by
  refine iX7_init_122 (iX7_init_123 (iX7_init_125 (n := 64) rfl (by decide) (s.cap (by decide)) (s.cas h0 (by decide)) (iX7_init_127 s.cls (k _ (In.step 16 298 s rfl rfl rfl rfl)))))
theorem in7_16 {d : Nat} {M0 M : MH} {Q : Out → MH → Prop} (s : In M0 16 298 M) (h0 : mhs M0 ≤ 100000) (k : ∀ M', In M0 17 26542 M' → MW mX7_init d 139 [vp 94, vu] [] M' Q) : MW mX7_init d 130 [vp 94, vu] [] M Q := by
  refine iX7_init_130 (iX7_init_131 (iX7_init_134 (n := 26244) rfl (by decide) (s.cap (by decide)) (s.cas h0 (by decide)) (iX7_init_136 s.cls (k _ (In.step 17 26542 s rfl rfl rfl rfl)))))
theorem in7_17 {d : Nat} {M0 M : MH} {Q : Out → MH → Prop} (s : In M0 17 26542 M) (h0 : mhs M0 ≤ 100000) (k : ∀ M', In M0 18 30638 M' → MW mX7_init d 148 [vp 94, vu] [] M' Q) : MW mX7_init d 139 [vp 94, vu] [] M Q := by
  refine iX7_init_139 (iX7_init_140 (iX7_init_143 (n := 4096) rfl (by decide) (s.cap (by decide)) (s.cas h0 (by decide)) (iX7_init_145 s.cls (k _ (In.step 18 30638 s rfl rfl rfl rfl)))))
theorem in7_18 {d : Nat} {M0 M : MH} {Q : Out → MH → Prop} (s : In M0 18 30638 M) (h0 : mhs M0 ≤ 100000) (k : ∀ M', In M0 19 34734 M' → MW mX7_init d 157 [vp 94, vu] [] M' Q) : MW mX7_init d 148 [vp 94, vu] [] M Q := by
  refine iX7_init_148 (iX7_init_149 (iX7_init_152 (n := 4096) rfl (by decide) (s.cap (by decide)) (s.cas h0 (by decide)) (iX7_init_154 s.cls (k _ (In.step 19 34734 s rfl rfl rfl rfl)))))
theorem in7_19 {d : Nat} {M0 M : MH} {Q : Out → MH → Prop} (s : In M0 19 34734 M) (h0 : mhs M0 ≤ 100000) (k : ∀ M', In M0 20 34742 M' → MW mX7_init d 165 [vp 94, vu] [] M' Q) : MW mX7_init d 157 [vp 94, vu] [] M Q := by
  refine iX7_init_157 (iX7_init_158 (iX7_init_160 (n := 8) rfl (by decide) (s.cap (by decide)) (s.cas h0 (by decide)) (iX7_init_162 s.cls (k _ (In.step 20 34742 s rfl rfl rfl rfl)))))
theorem in7_20 {d : Nat} {M0 M : MH} {Q : Out → MH → Prop} (s : In M0 20 34742 M) (h0 : mhs M0 ≤ 100000) (k : ∀ M', In M0 21 34750 M' → MW mX7_init d 173 [vp 94, vu] [] M' Q) : MW mX7_init d 165 [vp 94, vu] [] M Q := by
  refine iX7_init_165 (iX7_init_166 (iX7_init_168 (n := 8) rfl (by decide) (s.cap (by decide)) (s.cas h0 (by decide)) (iX7_init_170 s.cls (k _ (In.step 21 34750 s rfl rfl rfl rfl)))))
theorem in7_21 {d : Nat} {M0 M : MH} {Q : Out → MH → Prop} (s : In M0 21 34750 M) (h0 : mhs M0 ≤ 100000) (k : ∀ M', In M0 22 34759 M' → MW mX7_init d 181 [vp 94, vu] [] M' Q) : MW mX7_init d 173 [vp 94, vu] [] M Q := by
  refine iX7_init_173 (iX7_init_174 (iX7_init_176 (n := 9) rfl (by decide) (s.cap (by decide)) (s.cas h0 (by decide)) (iX7_init_178 s.cls (k _ (In.step 22 34759 s rfl rfl rfl rfl)))))
theorem in7_22 {d : Nat} {M0 M : MH} {Q : Out → MH → Prop} (s : In M0 22 34759 M) (h0 : mhs M0 ≤ 100000) (k : ∀ M', In M0 23 34763 M' → MW mX7_init d 188 [vp 94, vu] [] M' Q) : MW mX7_init d 181 [vp 94, vu] [] M Q := by
  refine iX7_init_181 (iX7_init_182 (iX7_init_183 (n := 4) rfl (by decide) (s.cap (by decide)) (s.cas h0 (by decide)) (iX7_init_185 s.cls (k _ (In.step 23 34763 s rfl rfl rfl rfl)))))
theorem in7_23 {d : Nat} {M0 M : MH} {Q : Out → MH → Prop} (s : In M0 23 34763 M) (h0 : mhs M0 ≤ 100000) (k : ∀ M', In M0 24 34767 M' → MW mX7_init d 195 [vp 94, vu] [] M' Q) : MW mX7_init d 188 [vp 94, vu] [] M Q := by
  refine iX7_init_188 (iX7_init_189 (iX7_init_190 (n := 4) rfl (by decide) (s.cap (by decide)) (s.cas h0 (by decide)) (iX7_init_192 s.cls (k _ (In.step 24 34767 s rfl rfl rfl rfl)))))
theorem in7_24 {d : Nat} {M0 M : MH} {Q : Out → MH → Prop} (s : In M0 24 34767 M) (h0 : mhs M0 ≤ 100000) (k : ∀ M', In M0 25 34771 M' → MW mX7_init d 202 [vp 94, vu] [] M' Q) : MW mX7_init d 195 [vp 94, vu] [] M Q := by
  refine iX7_init_195 (iX7_init_196 (iX7_init_197 (n := 4) rfl (by decide) (s.cap (by decide)) (s.cas h0 (by decide)) (iX7_init_199 s.cls (k _ (In.step 25 34771 s rfl rfl rfl rfl)))))
theorem in7_25 {d : Nat} {M0 M : MH} {Q : Out → MH → Prop} (s : In M0 25 34771 M) (h0 : mhs M0 ≤ 100000) (k : ∀ M', In M0 26 34963 M' → MW mX7_init d 211 [vp 94, vu] [] M' Q) : MW mX7_init d 202 [vp 94, vu] [] M Q := by
  refine iX7_init_202 (iX7_init_203 (iX7_init_206 (n := 192) rfl (by decide) (s.cap (by decide)) (s.cas h0 (by decide)) (iX7_init_208 s.cls (k _ (In.step 26 34963 s rfl rfl rfl rfl)))))
theorem in7_26 {d : Nat} {M0 M : MH} {Q : Out → MH → Prop} (s : In M0 26 34963 M) (h0 : mhs M0 ≤ 100000) (k : ∀ M', In M0 27 35011 M' → MW mX7_init d 219 [vp 94, vu] [] M' Q) : MW mX7_init d 211 [vp 94, vu] [] M Q := by
  refine iX7_init_211 (iX7_init_212 (iX7_init_214 (n := 48) rfl (by decide) (s.cap (by decide)) (s.cas h0 (by decide)) (iX7_init_216 s.cls (k _ (In.step 27 35011 s rfl rfl rfl rfl)))))
set_option maxHeartbeats 4000000 in
theorem sp_init7 {d : Nat} {M0 : MH} (s0 : In M0 0 0 M0) (h0 : mhs M0 ≤ 100000) : MCv mX7_init (d + 1) [vp 94] M0 (fun M' => ∃ M, In M0 27 35011 M ∧ wI (wI (wI M 101 0 1) 101 1 1) 101 2 1 = M') := by
  refine mc_of (L := [vp 94, vu]) (by decide +kernel) (Nat.le_of_ble_eq_true rfl) rfl ?_
  refine iX7_init_0 (iX7_init_1 ?_)
  refine in7_0 s0 h0 (fun M1 s1 => ?_)
  refine in7_1 s1 h0 (fun M2 s2 => ?_)
  refine in7_2 s2 h0 (fun M3 s3 => ?_)
  refine in7_3 s3 h0 (fun M4 s4 => ?_)
  refine in7_4 s4 h0 (fun M5 s5 => ?_)
  refine in7_5 s5 h0 (fun M6 s6 => ?_)
  refine in7_6 s6 h0 (fun M7 s7 => ?_)
  refine in7_7 s7 h0 (fun M8 s8 => ?_)
  refine in7_8 s8 h0 (fun M9 s9 => ?_)
  refine in7_9 s9 h0 (fun M10 s10 => ?_)
  refine in7_10 s10 h0 (fun M11 s11 => ?_)
  refine in7_11 s11 h0 (fun M12 s12 => ?_)
  refine in7_12 s12 h0 (fun M13 s13 => ?_)
  refine in7_13 s13 h0 (fun M14 s14 => ?_)
  refine in7_14 s14 h0 (fun M15 s15 => ?_)
  refine in7_15 s15 h0 (fun M16 s16 => ?_)
  refine in7_16 s16 h0 (fun M17 s17 => ?_)
  refine in7_17 s17 h0 (fun M18 s18 => ?_)
  refine in7_18 s18 h0 (fun M19 s19 => ?_)
  refine in7_19 s19 h0 (fun M20 s20 => ?_)
  refine in7_20 s20 h0 (fun M21 s21 => ?_)
  refine in7_21 s21 h0 (fun M22 s22 => ?_)
  refine in7_22 s22 h0 (fun M23 s23 => ?_)
  refine in7_23 s23 h0 (fun M24 s24 => ?_)
  refine in7_24 s24 h0 (fun M25 s25 => ?_)
  refine in7_25 s25 h0 (fun M26 s26 => ?_)
  refine in7_26 s26 h0 (fun M27 s27 => ?_)
  have r8 : mrv M27 94 8 = some 101 := s27.2.2.2.2.1 8 101 rfl (by decide)
  have c8 : msh M27 101 = (100, 3) := (s27.2.2.2.1 101 (by decide) (by decide)).1
  have cl : (msh M27 94).1 = 10 := by rw [s27.2.2.1]
  refine iX7_init_219 (iX7_init_220 ?_)
  refine iX7_init_221 (iX7_init_222 (iX7_init_223 (by decide) (by decide) (fun g => absurd g (by decide)) (fun _ => ?_)))
  refine iX7_init_226 (iX7_init_227 (M := M27) (o := some 101) cl r8 (iX7_init_230 (iX7_init_231 (iX7_init_232 (M := M27) (n := 3) c8 (by decide) ?_))))
  refine iX7_init_233 (iX7_init_236 ?_)
  refine iX7_init_221 (iX7_init_222 (iX7_init_223 (by decide) (by decide) (fun g => absurd g (by decide)) (fun _ => ?_)))
  refine iX7_init_226 (iX7_init_227 (M := (wI M27 101 0 1)) (o := some 101) cl r8 (iX7_init_230 (iX7_init_231 (iX7_init_232 (M := (wI M27 101 0 1)) (n := 3) c8 (by decide) ?_))))
  refine iX7_init_233 (iX7_init_236 ?_)
  refine iX7_init_221 (iX7_init_222 (iX7_init_223 (by decide) (by decide) (fun g => absurd g (by decide)) (fun _ => ?_)))
  refine iX7_init_226 (iX7_init_227 (M := (wI (wI M27 101 0 1) 101 1 1)) (o := some 101) cl r8 (iX7_init_230 (iX7_init_231 (iX7_init_232 (M := (wI (wI M27 101 0 1) 101 1 1)) (n := 3) c8 (by decide) ?_))))
  refine iX7_init_233 (iX7_init_236 ?_)
  refine iX7_init_221 (iX7_init_222 (iX7_init_223 (by decide) (by decide) (fun _ => ?_) (fun g => absurd (by decide) g)))
  refine iX7_init_239 ?_
  exact ⟨M27, s27, rfl⟩
