/-! the model: places at rest -/
theorem RSt.u {V0 V : MVal} (h : RSt V0 V) {q i : Nat} {x : Int} (h1 : permQ q = false) (h2 : q ≠ 94) (h3 : q ≠ 97 ∧ q ≠ 98 ∧ q ≠ 99 ∧ q ≠ 100) : RSt V0 (u2 V q i x) := by
  refine ⟨h.1.scr h1 h2, ?_, ?_, ?_, ?_⟩
  · rw [u2_ne (Ne.symm h2)]; exact h.2.1
  · rw [u2_ne (Ne.symm h2)]; exact h.2.2.1
  · rw [u2_ne (by omega), u2_ne (by omega)]; exact h.2.2.2.1
  · rw [u2_ne (by omega), u2_ne (by omega)]; exact h.2.2.2.2
noncomputable def lkF (V : MVal) (r p : Nat) : Int := if (runS V (plc V r)).2.1 p = (p : Int) then 0 else V 110 (8 * p + ((runS V (plc V r)).2.1 p).toNat)
theorem lkF_rng {V : MVal} (hI : MI V) (r : Nat) {p : Nat} (hp : p < nP V) : -9 ≤ lkF V r p ∧ lkF V r p ≤ 9 := by
  have h1 : 0 ≤ (runS V (plc V r)).2.1 p ∧ (runS V (plc V r)).2.1 p < (nP V : Int) := ((runS_NR hI (WR.plc V r)).2.2.2.2.2 p hp).1
  have := nP_le V
  have := (hI.w (8 * p + ((runS V (plc V r)).2.1 p).toNat) (by omega)).2
  unfold lkF
  split <;> omega
def stp (V : MVal) (p : Nat) : Nat := (nH V + 1) ^ (nP V - 1 - p)
def dgt (V : MVal) (r p : Nat) : Nat := r / stp V p % (nH V + 1)
/-- the row r but for p, who is put at k - 1 -/
def swp (V : MVal) (r p k : Nat) : Nat := r - stp V p * dgt V r p + stp V p * k
theorem plc_dgt (V : MVal) (r p : Nat) : plc V r p = (dgt V r p : Int) - 1 := rfl
theorem dgt_le (V : MVal) (r p : Nat) : stp V p * dgt V r p ≤ r :=
  Nat.le_trans (Nat.mul_le_mul_left _ (Nat.mod_le _ _)) (Nat.mul_div_le r (stp V p))
theorem swp_lt {V : MVal} {r p k : Nat} (hr : r < rwN V) (hp : p < nP V) (hk : k ≤ nH V) : swp V r p k < rwN V := by
  have hs : 0 < stp V p := Nat.pow_pos (by omega)
  have e1 := Nat.div_add_mod r (stp V p)
  have e2 := Nat.div_add_mod (r / stp V p) (nH V + 1)
  have m1 := Nat.mod_lt r hs
  have hR : rwN V = stp V p * (nH V + 1) * (nH V + 1) ^ p := by
    unfold rwN stp
    rw [← Nat.pow_succ, ← Nat.pow_add]
    congr 1
    omega
  have ht : r / stp V p / (nH V + 1) < (nH V + 1) ^ p := by
    rw [Nat.div_div_eq_div_mul]
    exact Nat.div_lt_of_lt_mul (by rw [← hR]; exact hr)
  have hd := dgt_le V r p
  unfold swp
  unfold dgt at hd ⊢
  generalize r / stp V p / (nH V + 1) = t at *
  generalize r / stp V p % (nH V + 1) = g at *
  generalize r / stp V p = u at *
  generalize stp V p = s at *
  have a1 : s * ((nH V + 1) * t) + s * g + r % s = r := by rw [← Nat.mul_add, e2]; exact e1
  have a2 : s * k ≤ s * nH V := Nat.mul_le_mul_left _ hk
  have a3 : s * (nH V + 1) * (t + 1) ≤ s * (nH V + 1) * (nH V + 1) ^ p := Nat.mul_le_mul_left _ ht
  have a4 : s * (nH V + 1) * (t + 1) = s * ((nH V + 1) * t) + (s * nH V + s) := by rw [Nat.mul_add, Nat.mul_one, Nat.mul_assoc, Nat.mul_add s, Nat.mul_one]
  rw [hR]
  omega
def rsP (V : MVal) (r p : Nat) : Prop := (kd V p = 2 → plc V r p = pl V p) ∧ (kd V p ≠ 2 → ∀ k, k ≤ nH V → lkF V (swp V r p k) p ≤ lkF V r p)
def rsR (V : MVal) (r : Nat) : Prop := ∀ p, p < nP V → rsP V r p
noncomputable def fsN (V : MVal) : Nat → Int
  | 0 => -1
  | k + 1 => cif (rsR V k ∧ fsN V k = -1) (k : Int) (fsN V k)
theorem fsN_rng (V : MVal) : ∀ k, -1 ≤ fsN V k ∧ fsN V k < k
  | 0 => by simp [fsN]
  | k + 1 => by
    have := fsN_rng V k
    unfold fsN
    by_cases c : rsR V k ∧ fsN V k = -1
    · rw [cif_t c]; omega
    · rw [cif_f c]; omega
noncomputable def rsQ (V : MVal) (w : Int) : Int := if 4 < nP V then -100004 else if w = -2 then (cntC (rsR V) (rwN V) : Int) else if w = -1 then (if 0 < cntC (rsR V) (rwN V) then 1 else 0) else if fsN V (rwN V) = -1 then -100003 else plc V (fsN V (rwN V)).toNat w.toNat
abbrev rsC (V : MVal) (w : Int) : Prop := (-2 ≤ w ∧ w ≤ -1) ∨ 0 ≤ w ∧ w < nP V
noncomputable def rsZ (V : MVal) (w : Int) : Int := if rsC V w then rsQ V w else -100002
theorem cif01 {p : Prop} : cif p (1 : Int) 0 = 0 ∨ cif p (1 : Int) 0 = 1 := by
  by_cases h : p
  · rw [cif_t h]; exact Or.inr rfl
  · rw [cif_f h]; exact Or.inl rfl
theorem cif_n0 {p : Prop} (h : cif p (1 : Int) 0 ≠ 0) : p := by
  by_cases hp : p
  · exact hp
  · exact absurd (cif_f hp) h
theorem cif_e0 {p : Prop} (h : cif p (1 : Int) 0 = 0) : ¬ p := by
  intro hp
  rw [cif_t hp] at h
  cases h
set_option maxHeartbeats 16000000 in
theorem sp_restOf {d : Nat} {M : MH} {V0 V : MVal} (hS : MS (msh M) (mrv M)) (hI : MI V0) (hR : RSt V0 V) {w : Int} (hw : rsC V0 w) : MVi mX7_restOf (d + 3) [vp 94, vi w] M V (fun z V' => z = rsQ V0 w ∧ RSt V0 V') := by
  refine mc_of (L := [vp 94, vi w, vu, vu, vu, vu, vu, vu, vu, vu, vu]) (by decide +kernel) (Nat.le_of_ble_eq_true rfl) rfl ?_
  have n8 := nP_le V0
  have h8 := nH_le V0
  have e5 := hR.2.2.1
  have hs := hI.s
  refine iX7_restOf_0 (jX7_restOf_1 hS (iX7_restOf_4 (iX7_restOf_5 (by omega) (by omega) (fun g => ?_) (fun g => ?_))))
  rotate_left
  · refine iX7_restOf_8 (iX7_restOf_10 ?_)
    exact ⟨V, rfl, by unfold rsQ; rw [if_pos (by omega)], hR⟩
  have h4 : nP V0 ≤ 4 := by omega
  have hrw := rwN_le h4
  have hrp := rwN_pos V0
  refine iX7_restOf_11 ?_
  refine jX7_restOf_12 hS (sp_rows hS hR h4) ?_
  rintro z V1 ⟨rfl, rfl⟩
  refine iX7_restOf_15 (iX7_restOf_16 (iX7_restOf_17 ?_))
  -- the second pass
  have pass2 : ∀ f k : Nat, ∀ (W : MVal) (m6 m7 m8 m9 m10 : MV), k + f = rwN V0 → RSt V0 W → (∀ r p, r < rwN V0 → p < nP V0 → W 111 (4 * r + p) = lkF V0 r p) → MW mX7_restOf (d + 3) 113 [vp 94, vi w, vi (rwN V0), vi (cntC (rsR V0) k : Int), vi (fsN V0 k), vi k, m6, m7, m8, m9, m10] [] (sI M W) (Vi M (fun z V' => z = rsQ V0 w ∧ RSt V0 V')) := by
    intro f
    induction f with
    | zero =>
      intro k W m6 m7 m8 m9 m10 h1 h2 h3
      have : k = rwN V0 := by omega
      subst this
      have hf := fsN_rng V0 (rwN V0)
      have hc := cntC_le (rsR V0) (rwN V0)
      refine iX7_restOf_113 (iX7_restOf_115 (iX7_restOf_116 (by omega) (by omega) (fun g => ?_) (fun g => ?_)))
      rotate_left
      · omega
      unfold rsQ
      rw [if_neg (by omega)]
      refine iX7_restOf_322 (iX7_restOf_323 (iX7_restOf_325 (by omega) (by omega) (fun g1 => ?_) (fun g1 => ?_)))
      rotate_left
      · refine iX7_restOf_328 (iX7_restOf_329 ?_)
        exact ⟨W, rfl, by rw [if_pos (by omega)], h2⟩
      rw [if_neg (by omega)]
      refine iX7_restOf_330 (iX7_restOf_331 (iX7_restOf_332 (by omega) (by omega) (fun g2 => ?_) (fun g2 => ?_)))
      rotate_left
      · rw [if_pos (by omega)]
        refine iX7_restOf_335 (iX7_restOf_336 (by omega) (fun g3 => ?_) (fun g3 => ?_))
        · refine iX7_restOf_343 (iX7_restOf_344 ?_)
          exact ⟨W, rfl, by rw [if_neg (by omega)], h2⟩
        · refine iX7_restOf_339 (iX7_restOf_340 (iX7_restOf_344 ?_))
          exact ⟨W, rfl, by rw [if_pos (by omega)], h2⟩
      rw [if_neg (by omega)]
      refine iX7_restOf_345 (iX7_restOf_347 (iX7_restOf_348 (by omega) (by omega) (fun g4 => ?_) (fun g4 => ?_)))
      rotate_left
      · refine iX7_restOf_351 (iX7_restOf_353 ?_)
        exact ⟨W, rfl, by rw [if_pos (by omega)], h2⟩
      rw [if_neg (by omega)]
      obtain ⟨r, hr⟩ : ∃ r : Nat, fsN V0 (rwN V0) = r := ⟨(fsN V0 (rwN V0)).toNat, by omega⟩
      rw [hr, Int.toNat_natCast]
      refine iX7_restOf_354 (iX7_restOf_355 ?_)
      refine jX7_restOf_357 hS (sp_places hS h2 (r := r) (by omega)) ?_
      rintro W2 ⟨a1, a2⟩
      refine iX7_restOf_360 (jX7_restOf_361 hS (iX7_restOf_364 (jX7_restOf_365 hS ⟨by omega, by omega⟩ (iX7_restOf_366 ?_))))
      exact ⟨W2, rfl, a2 _ (by omega), h2.frP a1⟩
    | succ f ih =>
      intro r W m6 m7 m8 m9 m10 h1 h2 h3
      have hf := fsN_rng V0 r
      have hc := cntC_le (rsR V0) r
      have hr : r < rwN V0 := by omega
      refine iX7_restOf_113 (iX7_restOf_115 (iX7_restOf_116 (by omega) (by omega) (fun g => ?_) (fun g => ?_)))
      · omega
      refine iX7_restOf_119 (iX7_restOf_120 ?_)
      refine jX7_restOf_122 hS (sp_places hS h2 (r := r) (by omega)) ?_
      rintro W2 ⟨a1, a2⟩
      have h3b : ∀ r p, r < rwN V0 → p < nP V0 → W2 111 (4 * r + p) = lkF V0 r p := fun r p x y => by rw [a1 111 (by decide)]; exact h3 r p x y
      have h2b := h2.frP a1
      have e2 := h2b.2.1
      have e5 := h2b.2.2.1
      refine iX7_restOf_125 (iX7_restOf_126 (iX7_restOf_128 (iX7_restOf_129 (iX7_restOf_131 (iX7_restOf_132 ?_)))))
      have ploop : ∀ fp p : Nat, ∀ (m9 m10 : MV), p + fp = nP V0 → MW mX7_restOf (d + 3) 134 [vp 94, vi w, vi (rwN V0), vi (cntC (rsR V0) r : Int), vi (fsN V0 r), vi r, vi (cif (∀ q, q < p → rsP V0 r q) (1 : Int) 0), vi (((nH V0 + 1) ^ fp : Nat) : Int), vi p, m9, m10] [] (sI M W2) (Vi M (fun z V' => z = rsQ V0 w ∧ RSt V0 V')) := by
        intro fp
        induction fp with
        | zero =>
          intro p m9 m10 q1
          have : p = nP V0 := by omega
          subst this
          have key := ih (r + 1) W2 (vi (cif (∀ q, q < nP V0 → rsP V0 r q) (1 : Int) 0)) (vi (((nH V0 + 1) ^ 0 : Nat) : Int)) (vi (nP V0)) m9 m10 (by omega) h2b h3b
          have ec : ((cntC (rsR V0) (r + 1) : Nat) : Int) = (cntC (rsR V0) r : Int) + ((cif (rsR V0 r) 1 0 : Nat) : Int) := rfl
          have ef : fsN V0 (r + 1) = cif (rsR V0 r ∧ fsN V0 r = -1) (r : Int) (fsN V0 r) := rfl
          rw [ec, ef] at key
          have c01 := cif01 (p := ∀ q, q < nP V0 → rsP V0 r q)
          refine iX7_restOf_134 (iX7_restOf_136 (jX7_restOf_137 hS (iX7_restOf_140 (by omega) (by omega) (fun g => ?_) (fun g => ?_))))
          rotate_left
          · omega
          refine iX7_restOf_283 (iX7_restOf_284 (iX7_restOf_286 (by omega) (fun g1 => ?_) (fun g1 => ?_)))
          · have nr : ¬ rsR V0 r := cif_e0 g1
            rw [cif_f nr, cif_f (fun z => nr z.1)] at key
            refine iX7_restOf_293 (iX7_restOf_294 (iX7_restOf_295 (iX7_restOf_296 (iX7_restOf_298 (by omega) (fun g2 => ?_) (fun g2 => ?_)))))
            · refine iX7_restOf_312 (iX7_restOf_314 (iX7_restOf_316 (iX7_restOf_319 ?_)))
              exact key
            · exact absurd g1 g2
          · have yr : rsR V0 r := cif_n0 g1
            rw [cif_t yr] at key
            refine iX7_restOf_289 (iX7_restOf_290 (iX7_restOf_294 (iX7_restOf_295 (iX7_restOf_296 (iX7_restOf_298 (by omega) (fun g2 => ?_) (fun g2 => ?_))))))
            · exact absurd g2 g1
            refine iX7_restOf_301 (iX7_restOf_303 (iX7_restOf_304 (by omega) (by omega) (fun g3 => ?_) (fun g3 => ?_)))
            · rw [cif_f (fun z => g3 z.2)] at key
              refine iX7_restOf_312 (iX7_restOf_314 (iX7_restOf_316 (iX7_restOf_319 ?_)))
              exact key
            · rw [cif_t ⟨yr, by omega⟩] at key
              refine iX7_restOf_307 (iX7_restOf_309 (iX7_restOf_314 (iX7_restOf_316 (iX7_restOf_319 ?_))))
              exact key
        | succ fp ihp =>
          intro p m9 m10 q1
          have hp : p < nP V0 := by omega
          have ek : ((p : Int)).toNat = p := by omega
          have est : (((nH V0 + 1) ^ (fp + 1) : Nat) : Int) / ((nH V0 : Int) + 1) = (((nH V0 + 1) ^ fp : Nat) : Int) := by
            have : (nH V0 + 1) ^ (fp + 1) / (nH V0 + 1) = (nH V0 + 1) ^ fp := by rw [Nat.pow_succ]; exact Nat.mul_div_cancel _ (by omega)
            rw [← this]; rfl
          have p9 := pow9 (h := nH V0 + 1) (p := fp + 1) (by omega) (by omega)
          have e99 := h2b.2.2.2.2 p hp
          have rk := kd_rng V0 p
          have rpl := pl_rng hp
          have rpc := plc_rng V0 r p
          have c01 := cif01 (p := ∀ q, q < p → rsP V0 r q)
          have ste : stp V0 p = (nH V0 + 1) ^ fp := by unfold stp; rw [show nP V0 - 1 - p = fp by omega]
          refine iX7_restOf_134 (iX7_restOf_136 (jX7_restOf_137 hS (iX7_restOf_140 (by omega) (by omega) (fun g => ?_) (fun g => ?_))))
          · omega
          refine iX7_restOf_143 (iX7_restOf_145 (jX7_restOf_146 hS (iX7_restOf_149 (iX7_restOf_150 ?_))))
          rw [e2]
          refine iX7_restOf_151 (by omega) (by omega) (iX7_restOf_152 (iX7_restOf_154 (jX7_restOf_155 hS (iX7_restOf_158 (jX7_restOf_160 hS ⟨by omega, by omega⟩ ?_)))))
          rw [est, ek, e99.1]
          have nxt : ∀ (z : Int) (m9 m10 : MV), z = cif (∀ q, q < p + 1 → rsP V0 r q) (1 : Int) 0 → MW mX7_restOf (d + 3) 277 [vp 94, vi w, vi (rwN V0), vi (cntC (rsR V0) r : Int), vi (fsN V0 r), vi r, vi z, vi (((nH V0 + 1) ^ fp : Nat) : Int), vi p, m9, m10] [] (sI M W2) (Vi M (fun z V' => z = rsQ V0 w ∧ RSt V0 V')) := by
            rintro z m9 m10 rfl
            refine iX7_restOf_277 (iX7_restOf_280 ?_)
            exact ihp (p + 1) m9 m10 (by omega)
          have spl : (∀ q, q < p + 1 → rsP V0 r q) ↔ (∀ q, q < p → rsP V0 r q) ∧ rsP V0 r p := ⟨fun z => ⟨fun q hq => z q (by omega), z p (by omega)⟩, fun z q hq => by
            by_cases e : q = p
            · subst e; exact z.2
            · exact z.1 q (by omega)⟩
          refine iX7_restOf_161 (iX7_restOf_162 (by omega) (by omega) (fun g1 => ?_) (fun g1 => ?_))
          rotate_left
          · -- the king: he stays
            have hk : rsP V0 r p ↔ plc V0 r p = pl V0 p := ⟨fun z => z.1 (by omega), fun z => ⟨fun _ => z, fun y => absurd (by omega) y⟩⟩
            have fin : ∀ z : Int, z = cif (∀ q, q < p + 1 → rsP V0 r q) (1 : Int) 0 → MW mX7_restOf (d + 3) 192 [vp 94, vi w, vi (rwN V0), vi (cntC (rsR V0) r : Int), vi (fsN V0 r), vi r, vi (cif (∀ q, q < p → rsP V0 r q) (1 : Int) 0), vi (((nH V0 + 1) ^ fp : Nat) : Int), vi p, m9, m10] [vi z] (sI M W2) (Vi M (fun z V' => z = rsQ V0 w ∧ RSt V0 V')) := by
              intro z hz
              refine iX7_restOf_192 (iX7_restOf_194 ?_)
              exact nxt z _ _ hz
            refine iX7_restOf_165 (iX7_restOf_167 (by omega) (fun g2 => ?_) (fun g2 => ?_))
            · refine iX7_restOf_191 ?_
              exact fin 0 (cif_f (fun z => cif_e0 g2 (spl.mp z).1)).symm
            refine iX7_restOf_170 (jX7_restOf_171 hS (iX7_restOf_174 (jX7_restOf_176 hS ⟨by omega, by omega⟩ (iX7_restOf_177 (jX7_restOf_178 hS (iX7_restOf_181 (jX7_restOf_183 hS ⟨by omega, by omega⟩ ?_)))))))
            rw [ek, a2 p hp, e99.2]
            refine iX7_restOf_184 (by omega) (by omega) (fun g3 => ?_) (fun g3 => ?_)
            · refine iX7_restOf_191 ?_
              exact fin 0 (cif_f (fun z => g3 (hk.mp (spl.mp z).2))).symm
            · refine iX7_restOf_187 (iX7_restOf_188 ?_)
              exact fin 1 (cif_t (spl.mpr ⟨cif_n0 g2, hk.mpr (by omega)⟩)).symm
          -- the others: none would like another place better
          have hk : rsP V0 r p ↔ ∀ k, k ≤ nH V0 → lkF V0 (swp V0 r p k) p ≤ lkF V0 r p := ⟨fun z => z.2 g1, fun z => ⟨fun y => absurd y g1, fun _ => z⟩⟩
          have hd := dgt_le V0 r p
          have hdx : (((nH V0 + 1) ^ fp : Nat) : Int) * (plc V0 r p + 1) = ((stp V0 p * dgt V0 r p : Nat) : Int) := by
            rw [plc_dgt, ste, Int.natCast_mul]
            congr 1
            omega
          refine iX7_restOf_197 (iX7_restOf_199 (iX7_restOf_201 (jX7_restOf_202 hS (iX7_restOf_205 (jX7_restOf_207 hS ⟨by omega, by omega⟩ (iX7_restOf_208 (iX7_restOf_209 ?_)))))))
          rw [ek, a2 p hp]
          refine iX7_restOf_210 ?_
          rw [hdx]
          refine iX7_restOf_211 (iX7_restOf_212 (iX7_restOf_214 (iX7_restOf_215 ?_)))
          have lkr := lkF_rng hI r hp
          have iloop : ∀ fi k : Nat, k + fi = nH V0 + 1 → MW mX7_restOf (d + 3) 217 [vp 94, vi w, vi (rwN V0), vi (cntC (rsR V0) r : Int), vi (fsN V0 r), vi r, vi (cif ((∀ q, q < p → rsP V0 r q) ∧ ∀ j, j < k → lkF V0 (swp V0 r p j) p ≤ lkF V0 r p) (1 : Int) 0), vi (((nH V0 + 1) ^ fp : Nat) : Int), vi p, vi ((r : Int) - ((stp V0 p * dgt V0 r p : Nat) : Int)), vi k] [] (sI M W2) (Vi M (fun z V' => z = rsQ V0 w ∧ RSt V0 V')) := by
            intro fi
            induction fi with
            | zero =>
              intro k q2
              refine iX7_restOf_217 (iX7_restOf_219 (jX7_restOf_220 hS (iX7_restOf_223 (by omega) (by omega) (fun g3 => ?_) (fun g3 => ?_))))
              rotate_left
              · omega
              exact nxt _ _ _ (cif_iff ⟨fun z => spl.mpr ⟨z.1, hk.mpr (fun j hj => z.2 j (by omega))⟩, fun z => ⟨(spl.mp z).1, fun j hj => hk.mp (spl.mp z).2 j (by omega)⟩⟩)
            | succ fi ihi =>
              intro k q2
              have c02 := cif01 (p := (∀ q, q < p → rsP V0 r q) ∧ ∀ j, j < k → lkF V0 (swp V0 r p j) p ≤ lkF V0 r p)
              have hsw := swp_lt (k := k) hr hp (by omega)
              have esw : (r : Int) - ((stp V0 p * dgt V0 r p : Nat) : Int) + (((nH V0 + 1) ^ fp : Nat) : Int) * (k : Int) = ((swp V0 r p k : Nat) : Int) := by
                rw [← ste, ← Int.natCast_mul]
                unfold swp
                omega
              have lks := lkF_rng hI (swp V0 r p k) hp
              have i1 := h3b r p hr hp
              have i2 := h3b (swp V0 r p k) p hsw hp
              have t1 : (4 * ((swp V0 r p k : Nat) : Int) + (p : Int)).toNat = 4 * swp V0 r p k + p := by omega
              have t2 : (4 * (r : Int) + (p : Int)).toNat = 4 * r + p := by omega
              have spk : ((∀ q, q < p → rsP V0 r q) ∧ ∀ j, j < k + 1 → lkF V0 (swp V0 r p j) p ≤ lkF V0 r p) ↔ ((∀ q, q < p → rsP V0 r q) ∧ ∀ j, j < k → lkF V0 (swp V0 r p j) p ≤ lkF V0 r p) ∧ lkF V0 (swp V0 r p k) p ≤ lkF V0 r p := ⟨fun z => ⟨⟨z.1, fun j hj => z.2 j (by omega)⟩, z.2 k (by omega)⟩, fun z => ⟨z.1.1, fun j hj => by
                by_cases e : j = k
                · subst e; exact z.2
                · exact z.1.2 j (by omega)⟩⟩
              have fin : ∀ z : Int, z = cif ((∀ q, q < p → rsP V0 r q) ∧ ∀ j, j < k + 1 → lkF V0 (swp V0 r p j) p ≤ lkF V0 r p) (1 : Int) 0 → MW mX7_restOf (d + 3) 269 [vp 94, vi w, vi (rwN V0), vi (cntC (rsR V0) r : Int), vi (fsN V0 r), vi r, vi (cif ((∀ q, q < p → rsP V0 r q) ∧ ∀ j, j < k → lkF V0 (swp V0 r p j) p ≤ lkF V0 r p) (1 : Int) 0), vi (((nH V0 + 1) ^ fp : Nat) : Int), vi p, vi ((r : Int) - ((stp V0 p * dgt V0 r p : Nat) : Int)), vi k] [vi z] (sI M W2) (Vi M (fun z V' => z = rsQ V0 w ∧ RSt V0 V')) := by
                rintro z rfl
                refine iX7_restOf_269 (iX7_restOf_271 (iX7_restOf_274 ?_))
                exact ihi (k + 1) (by omega)
              refine iX7_restOf_217 (iX7_restOf_219 (jX7_restOf_220 hS (iX7_restOf_223 (by omega) (by omega) (fun g3 => ?_) (fun g3 => ?_))))
              · omega
              refine iX7_restOf_226 (iX7_restOf_228 (by omega) (fun g4 => ?_) (fun g4 => ?_))
              · refine iX7_restOf_268 ?_
                exact fin 0 (cif_f (fun z => cif_e0 g4 (spk.mp z).1)).symm
              refine iX7_restOf_231 (jX7_restOf_232 hS (iX7_restOf_235 (iX7_restOf_236 (iX7_restOf_238 (iX7_restOf_240 (iX7_restOf_242 (iX7_restOf_243 ?_)))))))
              rw [esw]
              refine iX7_restOf_244 (iX7_restOf_245 (iX7_restOf_247 (jX7_restOf_248 hS ⟨by omega, by omega⟩ (iX7_restOf_249 (jX7_restOf_250 hS (iX7_restOf_253 (iX7_restOf_254 (iX7_restOf_256 (iX7_restOf_257 (iX7_restOf_259 (jX7_restOf_260 hS ⟨by omega, by omega⟩ ?_)))))))))))
              rw [t1, t2, i1, i2]
              refine iX7_restOf_261 (by omega) (by omega) (fun g5 => ?_) (fun g5 => ?_)
              · refine iX7_restOf_268 ?_
                exact fin 0 (cif_f (fun z => by have := (spk.mp z).2; omega)).symm
              · refine iX7_restOf_264 (iX7_restOf_265 ?_)
                exact fin 1 (cif_t (spk.mpr ⟨cif_n0 g4, by omega⟩)).symm
          have := iloop (nH V0 + 1) 0 (by omega)
          rw [cif_iff (show ((∀ q, q < p → rsP V0 r q) ∧ ∀ j, j < 0 → lkF V0 (swp V0 r p j) p ≤ lkF V0 r p) ↔ ∀ q, q < p → rsP V0 r q from ⟨fun z => z.1, fun z => ⟨z, fun j hj => absurd hj (by omega)⟩⟩)] at this
          exact this
      have := ploop (nP V0) 0 m9 m10 (by omega)
      rw [cif_t (fun q hq => absurd hq (by omega))] at this
      exact this
  -- the first pass
  have pass1 : ∀ f k : Nat, ∀ (W : MVal) (m4 : MV), k + f = rwN V0 → RSt V0 W → (∀ r p, r < k → p < nP V0 → W 111 (4 * r + p) = lkF V0 r p) → MW mX7_restOf (d + 3) 18 [vp 94, vi w, vi (rwN V0), vi k, m4, vu, vu, vu, vu, vu, vu] [] (sI M W) (Vi M (fun z V' => z = rsQ V0 w ∧ RSt V0 V')) := by
    intro f
    induction f with
    | zero =>
      intro k W m4 h1 h2 h3
      refine iX7_restOf_18 (iX7_restOf_19 (iX7_restOf_20 (by omega) (by omega) (fun g => ?_) (fun g => ?_)))
      rotate_left
      · omega
      refine iX7_restOf_105 (iX7_restOf_106 (iX7_restOf_107 (iX7_restOf_108 (iX7_restOf_110 (iX7_restOf_111 ?_)))))
      exact pass2 (rwN V0) 0 W _ _ _ _ _ (by omega) h2 (fun r p x y => h3 r p (by omega) y)
    | succ f ih =>
      intro r W m4 h1 h2 h3
      have hr : r < rwN V0 := by omega
      refine iX7_restOf_18 (iX7_restOf_19 (iX7_restOf_20 (by omega) (by omega) (fun g => ?_) (fun g => ?_)))
      · omega
      refine iX7_restOf_23 (iX7_restOf_24 ?_)
      refine jX7_restOf_25 hS (sp_places hS h2 (r := r) (by omega)) ?_
      rintro W2 ⟨a1, a2⟩
      have h2b := h2.frP a1
      refine iX7_restOf_28 (iX7_restOf_29 (jX7_restOf_30 hS ?_))
      rw [h2b.1.2.1]
      refine jX7_restOf_33 hS (sp_runs hS hI h2b (WR.plc V0 r) a2 hs) ?_
      rintro W3 ⟨b1, b2⟩
      have e111 : W3 111 = W 111 := by rw [b1.1 111 (by decide) (by decide) (by decide) (by decide) (by decide), a1 111 (by decide)]
      refine iX7_restOf_36 (iX7_restOf_37 ?_)
      have ploop : ∀ fp p : Nat, ∀ (U : MVal), p + fp = nP V0 → RSt V0 U → (∀ q, q < nP V0 → U 106 q = (runS V0 (plc V0 r)).2.1 q) → (∀ r2 q, r2 < r → q < nP V0 → U 111 (4 * r2 + q) = lkF V0 r2 q) → (∀ q, q < p → U 111 (4 * r + q) = lkF V0 r q) → MW mX7_restOf (d + 3) 39 [vp 94, vi w, vi (rwN V0), vi r, vi p, vu, vu, vu, vu, vu, vu] [] (sI M U) (Vi M (fun z V' => z = rsQ V0 w ∧ RSt V0 V')) := by
        intro fp
        induction fp with
        | zero =>
          intro p U q1 q2 q3 q4 q5
          have e5 := q2.2.2.1
          refine iX7_restOf_39 (iX7_restOf_41 (jX7_restOf_42 hS (iX7_restOf_45 (by omega) (by omega) (fun g => ?_) (fun g => ?_))))
          rotate_left
          · omega
          refine iX7_restOf_99 (iX7_restOf_102 ?_)
          refine ih (r + 1) U _ (by omega) q2 (fun r2 q x y => ?_)
          by_cases e : r2 = r
          · subst e; exact q5 q (by omega)
          · exact q4 r2 q (by omega) y
        | succ fp ihp =>
          intro p U q1 q2 q3 q4 q5
          have e5 := q2.2.2.1
          have hp : p < nP V0 := by omega
          have ek : ((p : Int)).toNat = p := by omega
          have e3 := q3 p hp
          have rkp : 0 ≤ (runS V0 (plc V0 r)).2.1 p ∧ (runS V0 (plc V0 r)).2.1 p < (nP V0 : Int) := ((runS_NR hI (WR.plc V0 r)).2.2.2.2.2 p hp).1
          have t2 : (4 * (r : Int) + (p : Int)).toNat = 4 * r + p := by omega
          have fin : ∀ x : Int, x = lkF V0 r p → MW mX7_restOf (d + 3) 92 [vp 94, vi w, vi (rwN V0), vi r, vi p, vu, vu, vu, vu, vu, vu] [vi x, vi (4 * (r : Int) + (p : Int)), vp 111] (sI M U) (Vi M (fun z V' => z = rsQ V0 w ∧ RSt V0 V')) := by
            intro x hx
            refine jX7_restOf_92 hS ⟨by omega, by omega⟩ (iX7_restOf_93 (iX7_restOf_96 ?_))
            rw [t2]
            refine ihp (p + 1) _ (by omega) (q2.u rfl (by decide) (by decide)) (fun q hq => by rw [u2_ne (by decide)]; exact q3 q hq) (fun r2 q y1 y2 => ?_) (fun q hq => ?_)
            · rw [u2_off (by omega)]; exact q4 r2 q y1 y2
            · by_cases e : q = p
              · subst e; rw [u2_at]; exact hx
              · rw [u2_off (by omega)]; exact q5 q (by omega)
          refine iX7_restOf_39 (iX7_restOf_41 (jX7_restOf_42 hS (iX7_restOf_45 (by omega) (by omega) (fun g => ?_) (fun g => ?_))))
          · omega
          refine iX7_restOf_48 (jX7_restOf_49 hS (iX7_restOf_52 (iX7_restOf_53 (iX7_restOf_54 (iX7_restOf_55 (iX7_restOf_57 (iX7_restOf_58 (jX7_restOf_59 hS (iX7_restOf_62 (jX7_restOf_64 hS ⟨by omega, by omega⟩ ?_))))))))))
          rw [ek, e3]
          refine iX7_restOf_65 (iX7_restOf_67 (by omega) (by omega) (fun g1 => ?_) (fun g1 => ?_))
          · refine iX7_restOf_74 (jX7_restOf_75 hS (iX7_restOf_78 (iX7_restOf_80 (iX7_restOf_82 (iX7_restOf_83 (jX7_restOf_84 hS (iX7_restOf_87 (jX7_restOf_89 hS ⟨by omega, by omega⟩ ?_))))))))
            rw [ek, e3]
            refine iX7_restOf_90 (jX7_restOf_91 hS ⟨by omega, by omega⟩ ?_)
            refine fin _ ?_
            unfold lkF
            rw [if_neg g1, q2.1.1 110 rfl]
            exact congrArg (V0 110) (by omega)
          · refine iX7_restOf_70 (iX7_restOf_71 ?_)
            refine fin _ ?_
            unfold lkF
            rw [if_pos (by omega)]
      exact ploop (nP V0) 0 W3 (by omega) b2.1 (fun q hq => (b2.2.1.2.2.2.2.2 q hq).1) (fun r2 q x y => by rw [e111]; exact h3 r2 q x y) (fun q hq => absurd hq (by omega))
  exact pass1 (rwN V0) 0 V _ (by omega) hR (fun r p x => absurd x (by omega))
theorem sp_restNow {d : Nat} {M : MH} {V0 V : MVal} (hS : MS (msh M) (mrv M)) (hI : MI V0) (hP : PEq V0 V) {w : Int} (hw : rsC V0 w) : MVi mX7_restNow (d + 4) [vp 94, vi w] M V (fun z V' => z = rsQ V0 w ∧ RSt V0 V') := by
  refine mc_of (L := [vp 94, vi w]) (by decide +kernel) (Nat.le_of_ble_eq_true rfl) rfl ?_
  refine iX7_restNow_0 ?_
  refine jX7_restNow_1 hS (sp_reads hS hI.t hP) ?_
  intro V1 hR
  refine iX7_restNow_4 (iX7_restNow_5 ?_)
  refine jX7_restNow_6 hS (sp_restOf hS hI hR hw) ?_
  rintro z V2 ⟨rfl, h2⟩
  refine iX7_restNow_9 ?_
  exact ⟨V2, rfl, rfl, h2⟩
theorem sp_rest {d : Nat} {M : MH} {V0 V : MVal} (hS : MS (msh M) (mrv M)) (hI : MI V0) (hP : PEq V0 V) {w : Int} (hw : inR w) : MVi mX7_rest (d + 5) [vp 94, vi w] M V (fun z V' => z = rsZ V0 w ∧ PEq V0 V') := by
  refine mc_of (L := [vp 94, vi w]) (by decide +kernel) (Nat.le_of_ble_eq_true rfl) rfl ?_
  have yes : ∀ V1, PEq V0 V1 → rsC V0 w → MW mX7_rest (d + 5) 18 [vp 94, vi w] [] (sI M V1) (Vi M (fun z V' => z = rsZ V0 w ∧ PEq V0 V')) := by
    intro V1 h1 h2
    refine iX7_rest_18 (iX7_rest_19 ?_)
    refine jX7_rest_20 hS (sp_restNow hS hI h1 h2) ?_
    rintro z V2 ⟨rfl, h3⟩
    refine iX7_rest_23 (iX7_rest_28 ?_)
    exact ⟨V2, rfl, by unfold rsZ; rw [if_pos h2], h3.1⟩
  refine iX7_rest_0 (iX7_rest_1 (iX7_rest_3 (jX7_rest_4 (sp_X7_in (by omega) (by omega) (by omega)) (iX7_rest_7 bzR (fun h0 => have g1 := bz_ne h0; ?_) (fun h0 => have g1 := bz_eq h0; ?_)))))
  · exact yes V hP (Or.inl g1)
  refine iX7_rest_10 (iX7_rest_11 ?_)
  refine jX7_rest_12 hS (sp_isPerson hS hI.t hP hw) ?_
  rintro z V1 ⟨rfl, hR⟩
  refine iX7_rest_15 bzR (fun h0 => have g2 := bz_eq h0; ?_) (fun h0 => have g2 := bz_ne h0; ?_)
  · refine iX7_rest_26 (iX7_rest_28 ?_)
    exact ⟨V1, rfl, by unfold rsZ; rw [if_neg (fun z => z.elim g1 g2)], hR.1⟩
  · exact yes V1 hR.1 (Or.inr g2)
