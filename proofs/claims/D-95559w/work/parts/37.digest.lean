/-! the model: the digest -/
theorem fpR (V : MVal) : inR (fH V) ∧ inR (fP V) := by
  have := fH_rng V
  have := fP_rng V
  omega
set_option maxHeartbeats 16000000 in
theorem sp_digest {d : Nat} {M : MH} {V0 V : MVal} (hS : MS (msh M) (mrv M)) (hI : MI V0) (hP : PEq V0 V) : MVl mX7_digest (d + 6) [vp 94] M V (fun z V' => z = dgZ V0 ∧ PEq V0 V') := by
  refine mc_of (L := [vp 94, vu, vu, vu, vu]) (by decide +kernel) (Nat.le_of_ble_eq_true rfl) rfl ?_
  have n8 := nP_le V0
  have h8 := nH_le V0
  have hs := hI.s
  have hf := fpR V0
  -- the lengths, the changes
  have ll : ∀ f k : Nat, ∀ (h : Int) (m4 : MV) (W : MVal), k + f = (V0 94 9).toNat → RSt V0 W → dgL (fun k => len V0 (pl V0) k) (dgS (dgP V0) (dgS (dgH V0) (31 * (31 * dgL (fun w => cuZ V0 w) 17 8 + fH V0) + fP V0) (nH V0)) (nP V0)) k = h → MW mX7_digest (d + 6) 297 [vp 94, vl h, vu, vi k, m4] [] (sI M W) (Vl M (fun z V' => z = dgZ V0 ∧ PEq V0 V')) := by
    intro f
    induction f with
    | zero =>
      rintro k h m4 W h1 h2 rfl
      have : k = (V0 94 9).toNat := by omega
      subst this
      have e9 := h2.1.2.1
      refine iX7_digest_297 (iX7_digest_298 (jX7_digest_299 hS (iX7_digest_302 (by omega) (by omega) (fun g => ?_) (fun g => ?_))))
      rotate_left
      · omega
      have cr := chN_rng V0
      refine iX7_digest_324 (iX7_digest_327 (iX7_digest_328 (iX7_digest_329 ?_)))
      refine jX7_digest_330 hS (sp_changesNow hS hI h2.1) ?_
      rintro z W2 ⟨rfl, h3⟩
      refine iX7_digest_333 (by omega) (iX7_digest_334 (iX7_digest_335 ?_))
      exact ⟨W2, rfl, rfl, h3.1⟩
    | succ f ih =>
      rintro k h m4 W h1 h2 rfl
      have e9 := h2.1.2.1
      have lr := len_rng (V := V0) k
      refine iX7_digest_297 (iX7_digest_298 (jX7_digest_299 hS (iX7_digest_302 (by omega) (by omega) (fun g => ?_) (fun g => ?_))))
      · omega
      refine iX7_digest_305 (iX7_digest_308 (iX7_digest_309 (iX7_digest_310 (iX7_digest_311 ?_))))
      refine jX7_digest_312 hS (sp_lengthOf hS hI h2.1 (w := k) (by omega)) ?_
      rw [Int.toNat_natCast]
      rintro z W2 ⟨rfl, h3⟩
      refine iX7_digest_315 (by omega) (iX7_digest_316 (iX7_digest_317 (iX7_digest_318 (iX7_digest_321 ?_))))
      exact ih (k + 1) _ _ W2 (by omega) h3 rfl
  -- the people
  have pl1 : ∀ f p : Nat, ∀ (h : Int) (m4 : MV) (W : MVal), p + f = nP V0 → RSt V0 W → dgS (dgP V0) (dgS (dgH V0) (31 * (31 * dgL (fun w => cuZ V0 w) 17 8 + fH V0) + fP V0) (nH V0)) p = h → MW mX7_digest (d + 6) 164 [vp 94, vl h, vu, vi p, m4] [] (sI M W) (Vl M (fun z V' => z = dgZ V0 ∧ PEq V0 V')) := by
    intro f
    induction f with
    | zero =>
      rintro p h m4 W h1 h2 rfl
      have : p = nP V0 := by omega
      subst this
      have e5 := h2.2.2.1
      refine iX7_digest_164 (iX7_digest_165 (jX7_digest_166 hS (iX7_digest_169 (by omega) (by omega) (fun g => ?_) (fun g => ?_))))
      rotate_left
      · omega
      refine iX7_digest_295 (iX7_digest_296 ?_)
      exact ll (V0 94 9).toNat 0 _ _ W (by omega) h2 rfl
    | succ f ih =>
      intro p h m4 W h1 h2 hh
      have hp : p < nP V0 := by omega
      have e5 := h2.2.2.1
      have st : dgP V0 p h = dgS (dgP V0) (dgS (dgH V0) (31 * (31 * dgL (fun w => cuZ V0 w) 17 8 + fH V0) + fP V0) (nH V0)) (p + 1) := by rw [← hh]; rfl
      refine iX7_digest_164 (iX7_digest_165 (jX7_digest_166 hS (iX7_digest_169 (by omega) (by omega) (fun g => ?_) (fun g => ?_))))
      · omega
      refine iX7_digest_172 (iX7_digest_173 ?_)
      have wl : ∀ fw w : Nat, ∀ x : Int, w + fw = 3 → dgL (fun w => psQ V0 p w) h w = x → MW mX7_digest (d + 6) 175 [vp 94, vl x, vu, vi p, vi w] [] (sI M W) (Vl M (fun z V' => z = dgZ V0 ∧ PEq V0 V')) := by
        intro fw
        induction fw with
        | zero =>
          rintro w x q1 rfl
          have : w = 3 := by omega
          subst this
          have r1 : 0 ≤ (runS V0 (pl V0)).2.1 p ∧ (runS V0 (pl V0)).2.1 p < (nP V0 : Int) := ((runS_NR hI (WR.pl V0)).2.2.2.2.2 p hp).1
          have r2 : 0 ≤ (runS V0 (pl V0)).2.2 p ∧ (runS V0 (pl V0)).2.2 p ≤ 12 := ((runS_NR hI (WR.pl V0)).2.2.2.2.2 p hp).2
          have r3 := gnF_rng hI (runS V0 (pl V0)) (p := p) (by omega)
          have r4 := ouF_rng hp
          have r5 := allBut_lt V0 p
          have r6 : cmF V0 p (allBut V0 p) < 256 := Nat.lt_of_lt_of_le (bitsN_lt _ _) (Nat.pow_le_pow_right (n := 2) (by decide) n8)
          have ea := allBut_e (nP V0) n8 p hp
          have e9 := h2.1.2.1
          refine iX7_digest_175 (iX7_digest_177 (iX7_digest_178 (by omega) (by omega) (fun g1 => ?_) (fun g1 => ?_)))
          rotate_left
          · omega
          refine iX7_digest_202 (iX7_digest_205 (iX7_digest_206 (iX7_digest_207 (iX7_digest_208 (iX7_digest_209 (jX7_digest_210 hS ?_))))))
          rw [e9]
          refine jX7_digest_213 hS (sp_keeperOf hS hI h2.1 (h := p) (by omega) hs) ?_
          rw [Int.toNat_natCast]
          rintro z W2 ⟨rfl, h3⟩
          change MW mX7_digest (d + 6) 216 _ [vi ((runS V0 (pl V0)).2.1 p), _] _ _
          have e9 := h3.1.2.1
          refine iX7_digest_216 (by omega) (iX7_digest_217 (iX7_digest_218 (iX7_digest_219 (iX7_digest_222 (iX7_digest_223 (iX7_digest_224 (iX7_digest_225 (iX7_digest_226 (jX7_digest_227 hS ?_)))))))))
          rw [e9]
          refine jX7_digest_230 hS (sp_soldOf hS hI h3.1 (h := p) (by omega) hs) ?_
          rw [Int.toNat_natCast]
          rintro z W3 ⟨rfl, h4⟩
          change MW mX7_digest (d + 6) 233 _ [vi ((runS V0 (pl V0)).2.2 p), _] _ _
          refine iX7_digest_233 (by omega) (iX7_digest_234 (iX7_digest_235 (iX7_digest_236 (iX7_digest_239 (iX7_digest_240 (iX7_digest_241 (iX7_digest_242 ?_)))))))
          refine jX7_digest_243 hS (sp_gainOf hS hI h4.1 (p := p) (by omega)) ?_
          rintro z W4 ⟨rfl, h5⟩
          refine iX7_digest_246 (by omega) (iX7_digest_247 (iX7_digest_248 (iX7_digest_249 (iX7_digest_252 (iX7_digest_253 (iX7_digest_254 (iX7_digest_255 ?_)))))))
          refine jX7_digest_256 hS (sp_outOf hS hI h5 hp) ?_
          rintro z W5 ⟨rfl, rfl⟩
          have e5 := h5.2.2.1
          refine iX7_digest_259 (by omega) (iX7_digest_260 (iX7_digest_261 (iX7_digest_262 (iX7_digest_265 (iX7_digest_266 (iX7_digest_267 (iX7_digest_268 (iX7_digest_269 (iX7_digest_270 (jX7_digest_271 hS (iX7_digest_274 (iX7_digest_275 (iX7_digest_276 (iX7_digest_277 (iX7_digest_278 (iX7_digest_279 (iX7_digest_280 (iX7_digest_281 (iX7_digest_282 ?_)))))))))))))))))))
          rw [e5, ea]
          refine jX7_digest_283 hS (sp_comeOf hS hI h5 (h := p) (s := allBut V0 p) hp r5) ?_
          rintro z W6 ⟨rfl, rfl⟩
          refine iX7_digest_286 (by omega) (iX7_digest_287 (iX7_digest_288 (iX7_digest_289 (iX7_digest_292 ?_))))
          exact ih (p + 1) _ _ W4 (by omega) h5 st.symm
        | succ fw ihw =>
          rintro w x q1 rfl
          have r1 := psQ_rng hp (w : Int)
          refine iX7_digest_175 (iX7_digest_177 (iX7_digest_178 (by omega) (by omega) (fun g1 => ?_) (fun g1 => ?_)))
          · omega
          refine iX7_digest_181 (iX7_digest_184 (iX7_digest_185 (iX7_digest_186 (iX7_digest_187 (iX7_digest_188 ?_)))))
          refine jX7_digest_190 hS (sp_personOf hS h2 hp (w := w) (by omega)) ?_
          rintro z W2 ⟨rfl, rfl⟩
          refine iX7_digest_193 (by omega) (iX7_digest_194 (iX7_digest_195 (iX7_digest_196 (iX7_digest_199 ?_))))
          exact ihw (w + 1) _ (by omega) rfl
      exact wl 3 0 h rfl rfl
  -- the houses
  have hl : ∀ f k : Nat, ∀ (h : Int) (m4 : MV) (W : MVal), k + f = nH V0 → RSt V0 W → dgS (dgH V0) (31 * (31 * dgL (fun w => cuZ V0 w) 17 8 + fH V0) + fP V0) k = h → MW mX7_digest (d + 6) 63 [vp 94, vl h, vu, vi k, m4] [] (sI M W) (Vl M (fun z V' => z = dgZ V0 ∧ PEq V0 V')) := by
    intro f
    induction f with
    | zero =>
      rintro k h m4 W h1 h2 rfl
      have : k = nH V0 := by omega
      subst this
      have e2 := h2.2.1
      refine iX7_digest_63 (iX7_digest_64 (jX7_digest_65 hS (iX7_digest_68 (by omega) (by omega) (fun g => ?_) (fun g => ?_))))
      rotate_left
      · omega
      refine iX7_digest_162 (iX7_digest_163 ?_)
      exact pl1 (nP V0) 0 _ _ W (by omega) h2 rfl
    | succ f ih =>
      intro k h m4 W h1 h2 hh
      have hk : k < nH V0 := by omega
      have e2 := h2.2.1
      have st : dgH V0 k h = dgS (dgH V0) (31 * (31 * dgL (fun w => cuZ V0 w) 17 8 + fH V0) + fP V0) (k + 1) := by rw [← hh]; rfl
      refine iX7_digest_63 (iX7_digest_64 (jX7_digest_65 hS (iX7_digest_68 (by omega) (by omega) (fun g => ?_) (fun g => ?_))))
      · omega
      refine iX7_digest_71 (iX7_digest_72 ?_)
      have wl : ∀ fw w : Nat, ∀ x : Int, w + fw = 3 → dgL (fun w => hsQ V0 k w) h w = x → MW mX7_digest (d + 6) 74 [vp 94, vl x, vu, vi k, vi w] [] (sI M W) (Vl M (fun z V' => z = dgZ V0 ∧ PEq V0 V')) := by
        intro fw
        induction fw with
        | zero =>
          rintro w x q1 rfl
          have : w = 3 := by omega
          subst this
          have e9 := h2.1.2.1
          have r1 : 0 ≤ (runS V0 (pl V0)).1 k ∧ (runS V0 (pl V0)).1 k ≤ 7 := (runS_NR hI (WR.pl V0)).2.2.2.2.1 k hk
          refine iX7_digest_74 (iX7_digest_76 (iX7_digest_77 (by omega) (by omega) (fun g1 => ?_) (fun g1 => ?_)))
          rotate_left
          · omega
          refine iX7_digest_101 (iX7_digest_102 (jX7_digest_103 hS ?_))
          rw [e9]
          refine jX7_digest_106 hS (sp_lays hS hI h2.1 hs) ?_
          intro W2 h3
          have eo : W2 105 k = (runS V0 (pl V0)).1 k := h3.2.1.2.2.2.2.1 k hk
          refine iX7_digest_109 (iX7_digest_112 (iX7_digest_113 (iX7_digest_114 (jX7_digest_115 hS (iX7_digest_118 (jX7_digest_119 hS ⟨by omega, by omega⟩ ?_))))))
          rw [Int.toNat_natCast, eo]
          refine iX7_digest_120 (by omega) (iX7_digest_121 (iX7_digest_122 (iX7_digest_123 (iX7_digest_124 ?_))))
          have vl1 : ∀ fq q : Nat, ∀ x : Int, q + fq = nP V0 → dgL (fun p => vlF V0 k p) (31 * dgL (fun w => hsQ V0 k w) h 3 + (runS V0 (pl V0)).1 k) q = x → MW mX7_digest (d + 6) 126 [vp 94, vl x, vu, vi k, vi q] [] (sI M W2) (Vl M (fun z V' => z = dgZ V0 ∧ PEq V0 V')) := by
            intro fq
            induction fq with
            | zero =>
              rintro q x q1 rfl
              have : q = nP V0 := by omega
              subst this
              have e5 := h3.1.2.2.1
              refine iX7_digest_126 (iX7_digest_128 (jX7_digest_129 hS (iX7_digest_132 (by omega) (by omega) (fun g2 => ?_) (fun g2 => ?_))))
              rotate_left
              · omega
              refine iX7_digest_156 (iX7_digest_159 ?_)
              exact ih (k + 1) _ _ W2 (by omega) h3.1 st.symm
            | succ fq ihq =>
              rintro q x q1 rfl
              have e5 := h3.1.2.2.1
              have vr := vlF_rng hI hk (p := q) (by omega)
              refine iX7_digest_126 (iX7_digest_128 (jX7_digest_129 hS (iX7_digest_132 (by omega) (by omega) (fun g2 => ?_) (fun g2 => ?_))))
              · omega
              refine iX7_digest_135 (iX7_digest_138 (iX7_digest_139 (iX7_digest_140 (iX7_digest_141 (iX7_digest_142 ?_)))))
              refine jX7_digest_144 hS (sp_valueOf hS hI h3.1 hk (p := q) (by omega)) ?_
              rintro z W3 ⟨rfl, rfl⟩
              refine iX7_digest_147 (by omega) (iX7_digest_148 (iX7_digest_149 (iX7_digest_150 (iX7_digest_153 ?_))))
              exact ihq (q + 1) _ (by omega) rfl
          exact vl1 (nP V0) 0 _ (by omega) rfl
        | succ fw ihw =>
          rintro w x q1 rfl
          have r1 := hsQ_rng hk (w : Int)
          refine iX7_digest_74 (iX7_digest_76 (iX7_digest_77 (by omega) (by omega) (fun g1 => ?_) (fun g1 => ?_)))
          · omega
          refine iX7_digest_80 (iX7_digest_83 (iX7_digest_84 (iX7_digest_85 (iX7_digest_86 (iX7_digest_87 ?_)))))
          refine jX7_digest_89 hS (sp_houseOf hS h2 hk (w := w) (by omega)) ?_
          rintro z W2 ⟨rfl, rfl⟩
          refine iX7_digest_92 (by omega) (iX7_digest_93 (iX7_digest_94 (iX7_digest_95 (iX7_digest_98 ?_))))
          exact ihw (w + 1) _ (by omega) rfl
      exact wl 3 0 h rfl rfl
  -- the counts
  have cl : ∀ f w : Nat, ∀ (h : Int) (W : MVal), w + f = 8 → PEq V0 W → dgL (fun w => cuZ V0 w) 17 w = h → MW mX7_digest (d + 6) 6 [vp 94, vl h, vu, vi w, vu] [] (sI M W) (Vl M (fun z V' => z = dgZ V0 ∧ PEq V0 V')) := by
    intro f
    induction f with
    | zero =>
      rintro w h W h1 h2 rfl
      have : w = 8 := by omega
      subst this
      have f0 : ftZ V0 0 = fH V0 := rfl
      have f1 : ftZ V0 1 = fP V0 := rfl
      refine iX7_digest_6 (iX7_digest_7 (iX7_digest_9 (by omega) (by omega) (fun g => ?_) (fun g => ?_)))
      rotate_left
      · omega
      refine iX7_digest_31 (iX7_digest_34 (iX7_digest_35 (iX7_digest_36 (iX7_digest_37 ?_))))
      refine jX7_digest_38 hS (sp_faultOf2 hS hI.t h2 (t := 0) (by omega)) ?_
      rw [f0]
      rintro z W2 ⟨rfl, h3⟩
      refine iX7_digest_41 (by omega) (iX7_digest_42 (iX7_digest_43 (iX7_digest_44 (iX7_digest_47 (iX7_digest_48 (iX7_digest_49 (iX7_digest_50 ?_)))))))
      refine jX7_digest_51 hS (sp_faultOf2 hS hI.t h3 (t := 1) (by omega)) ?_
      rw [f1]
      rintro z W3 ⟨rfl, h4⟩
      refine iX7_digest_54 (by omega) (iX7_digest_55 (iX7_digest_56 (iX7_digest_57 ?_)))
      refine jX7_digest_58 hS (sp_reads hS hI.t h4) ?_
      intro W4 h5
      refine iX7_digest_61 (iX7_digest_62 ?_)
      exact hl (nH V0) 0 _ _ W4 (by omega) h5 rfl
    | succ f ih =>
      rintro w h W h1 h2 rfl
      have cr := cuZ_rng hI (w := w) (by omega)
      refine iX7_digest_6 (iX7_digest_7 (iX7_digest_9 (by omega) (by omega) (fun g => ?_) (fun g => ?_)))
      · omega
      refine iX7_digest_12 (iX7_digest_15 (iX7_digest_16 (iX7_digest_17 (iX7_digest_18 ?_))))
      refine jX7_digest_19 hS (sp_count hS hI h2 (w := w) (by omega)) ?_
      rintro z W2 ⟨rfl, h3⟩
      refine iX7_digest_22 (by omega) (iX7_digest_23 (iX7_digest_24 (iX7_digest_25 (iX7_digest_28 ?_))))
      exact ih (w + 1) _ W2 (by omega) h3 rfl
  refine iX7_digest_0 (iX7_digest_3 (iX7_digest_4 (iX7_digest_5 ?_)))
  exact cl 8 0 17 V rfl hP rfl
