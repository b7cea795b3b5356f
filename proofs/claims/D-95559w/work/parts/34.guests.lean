/-! the model: dinners, facts, where all were -/
theorem i32R (x : Int32) : inR x.toInt := ⟨Int32.le_toInt x, Int.le_of_lt_add_one (Int32.toInt_lt x)⟩
theorem bv_sub (X Y : BitVec 32) : X &&& (Y ^^^ -1#32) = 0#32 ↔ X &&& Y = X := by
  have hl : ∀ i (hi : i < 32), (4294967295#32)[i] = true := by decide
  constructor
  · intro h
    apply BitVec.eq_of_getLsbD_eq
    intro i hi
    have h2 := congrArg (fun z => z.getLsbD i) h
    simp [hi] at h2 ⊢
    rw [hl i hi] at h2
    exact h2
  · intro h
    apply BitVec.eq_of_getLsbD_eq
    intro i hi
    have h2 := congrArg (fun z => z.getLsbD i) h
    simp [hi] at h2 ⊢
    rw [hl i hi]
    exact h2
theorem bandR (a b : Int) : inR (band a b) := i32R _
theorem band_not {a b : Nat} (ha : a < 2 ^ 31) : band (a : Int) (bxor (b : Int) (-1)) = 0 ↔ a &&& b = a := by
  have e1 : Int32.ofInt (bxor (b : Int) (-1)) = nI b ^^^ Int32.ofInt (-1) := by
    unfold bxor
    rw [Int32.ofInt_toInt, i32_nat]
  unfold band
  rw [e1, i32_nat]
  have e2 : (nI a &&& (nI b ^^^ Int32.ofInt (-1))).toInt = 0 ↔ BitVec.ofNat 32 a &&& (BitVec.ofNat 32 b ^^^ -1#32) = 0#32 := by
    constructor
    · intro h
      have h2 : nI a &&& (nI b ^^^ Int32.ofInt (-1)) = 0 := Int32.toInt.inj h
      exact congrArg Int32.toBitVec h2
    · intro h
      have h2 : nI a &&& (nI b ^^^ Int32.ofInt (-1)) = 0 := Int32.toBitVec.inj h
      rw [h2]; rfl
  rw [e2, bv_sub, ← BitVec.ofNat_and]
  constructor
  · intro h
    have h2 := congrArg BitVec.toNat h
    have h3 : a &&& b ≤ a := Nat.and_le_left
    rw [BitVec.toNat_ofNat, BitVec.toNat_ofNat, Nat.mod_eq_of_lt (by omega), Nat.mod_eq_of_lt (by omega)] at h2
    exact h2
  · intro h
    rw [h]
theorem bits_skip {f : Nat → Bool} {n : Nat} (h : f n = false) : bitsN f (n + 1) = bitsN f n := by
  show bitsN f n + (if f n = true then 2 ^ n else 0) = _
  rw [h]
  simp
theorem bitsN_ext {f g : Nat → Bool} : ∀ {n : Nat}, (∀ i, i < n → f i = g i) → bitsN f n = bitsN g n
  | 0, _ => rfl
  | n + 1, h => by
    show bitsN f n + (if f n = true then 2 ^ n else 0) = bitsN g n + (if g n = true then 2 ^ n else 0)
    rw [bitsN_ext (fun i hi => h i (by omega)), h n (by omega)]
def cmQ (V : MVal) (s p q : Nat) : Int := if q ≠ p ∧ s.testBit q = true then V 110 (8 * p + q) else 0
def cmB (V : MVal) (h s p : Nat) : Bool := s.testBit p && decide (0 ≤ V 110 (8 * p + h) + sumN (cmQ V s p) (nP V))
def cmF (V : MVal) (h s : Nat) : Nat := bitsN (cmB V h s) (nP V)
theorem cmQ_rng {V : MVal} (hI : MI V) (s : Nat) {p n : Nat} (hp : p < 8) (hn : n ≤ 8) : -72 ≤ sumN (cmQ V s p) n ∧ sumN (cmQ V s p) n ≤ 72 := by
  refine sumN_b hn (fun i hi => ?_)
  have := (hI.w (8 * p + i) (by omega)).2
  unfold cmQ
  split <;> omega
set_option maxHeartbeats 4000000 in
theorem sp_comeOf {d : Nat} {M : MH} {V0 V : MVal} (hS : MS (msh M) (mrv M)) (hI : MI V0) (hR : RSt V0 V) {h s : Nat} (hh : h < nP V0) (hs : s < 256) : MVi mX7_comeOf (d + 1) [vp 94, vi h, vi s] M V (fun z V' => z = cmF V0 h s ∧ V = V') := by
  refine mc_of (L := [vp 94, vi h, vi s, vu, vu, vu, vu]) (by decide +kernel) (Nat.le_of_ble_eq_true rfl) rfl ?_
  have n8 := nP_le V0
  have e5 := hR.2.2.1
  have e110 := hR.1.1 110 rfl
  have loop : ∀ f p : Nat, ∀ (m5 m6 : MV), p + f = nP V0 → MW mX7_comeOf (d + 1) 5 [vp 94, vi h, vi s, vi (bitsN (cmB V0 h s) p : Int), vi p, m5, m6] [] (sI M V) (Vi M (fun z V' => z = cmF V0 h s ∧ V = V')) := by
    intro f
    induction f with
    | zero =>
      intro p m5 m6 h1
      have : p = nP V0 := by omega
      subst this
      refine iX7_comeOf_5 (iX7_comeOf_7 (jX7_comeOf_8 hS (iX7_comeOf_11 (by omega) (by omega) (fun g => ?_) (fun g => ?_))))
      · refine iX7_comeOf_115 (iX7_comeOf_116 ?_)
        exact ⟨V, rfl, rfl, rfl⟩
      · omega
    | succ f ih =>
      intro p m5 m6 h1
      have hp : p < nP V0 := by omega
      have t1 : (8 * (p : Int) + (h : Int)).toNat = 8 * p + h := by omega
      have w1 := (hI.w (8 * p + h) (by omega)).2
      refine iX7_comeOf_5 (iX7_comeOf_7 (jX7_comeOf_8 hS (iX7_comeOf_11 (by omega) (by omega) (fun g => ?_) (fun g => ?_))))
      · omega
      refine iX7_comeOf_14 (iX7_comeOf_15 ?_)
      refine jX7_comeOf_17 (sp_X7_isIn (a := s) (k := p) (by omega) (by omega)) ?_
      refine iX7_comeOf_20 bzR (fun h0 => have g1 := bz_eq h0; ?_) (fun h0 => have g1 := bz_ne h0; ?_)
      · refine iX7_comeOf_109 (iX7_comeOf_112 ?_)
        have := ih (p + 1) m5 m6 (by omega)
        rw [bits_skip (by unfold cmB; rw [Bool.eq_false_iff.mpr g1]; rfl)] at this
        exact this
      refine iX7_comeOf_23 (jX7_comeOf_24 hS (iX7_comeOf_27 (iX7_comeOf_29 (iX7_comeOf_31 (iX7_comeOf_32 (iX7_comeOf_33 (jX7_comeOf_34 hS ⟨by omega, by omega⟩ ?_)))))))
      rw [t1, e110]
      refine iX7_comeOf_35 (iX7_comeOf_37 (iX7_comeOf_38 ?_))
      have il : ∀ fq q : Nat, q + fq = nP V0 → MW mX7_comeOf (d + 1) 40 [vp 94, vi h, vi s, vi (bitsN (cmB V0 h s) p : Int), vi p, vi (V0 110 (8 * p + h) + sumN (cmQ V0 s p) q), vi q] [] (sI M V) (Vi M (fun z V' => z = cmF V0 h s ∧ V = V')) := by
        intro fq
        induction fq with
        | zero =>
          intro q q1
          have : q = nP V0 := by omega
          subst this
          have r1 := cmQ_rng hI s (p := p) (by omega) n8
          have key := ih (p + 1) (vi (V0 110 (8 * p + h) + sumN (cmQ V0 s p) (nP V0))) (vi (nP V0)) (by omega)
          refine iX7_comeOf_40 (iX7_comeOf_42 (jX7_comeOf_43 hS (iX7_comeOf_46 (by omega) (by omega) (fun g2 => ?_) (fun g2 => ?_))))
          rotate_left
          · omega
          refine iX7_comeOf_93 (iX7_comeOf_94 (iX7_comeOf_96 (by omega) (fun g3 => ?_) (fun g3 => ?_)))
          · refine iX7_comeOf_106 ?_
            rw [← bits_off (by omega) (by unfold cmB; rw [decide_eq_false (by omega), Bool.and_false])] at key
            refine iX7_comeOf_107 (iX7_comeOf_108 (iX7_comeOf_109 (iX7_comeOf_112 ?_)))
            exact key
          · refine iX7_comeOf_99 (iX7_comeOf_100 (iX7_comeOf_102 (iX7_comeOf_103 ?_)))
            rw [← bits_on (by omega) (by unfold cmB; rw [decide_eq_true (by omega), Bool.and_true]; exact g1)] at key
            refine iX7_comeOf_107 (iX7_comeOf_108 (iX7_comeOf_109 (iX7_comeOf_112 ?_)))
            exact key
        | succ fq ihq =>
          intro q q1
          have t2 : (8 * (p : Int) + (q : Int)).toNat = 8 * p + q := by omega
          have fin : ∀ x : Int, x = cmQ V0 s p q → MW mX7_comeOf (d + 1) 84 [vp 94, vi h, vi s, vi (bitsN (cmB V0 h s) p : Int), vi p, vi (V0 110 (8 * p + h) + sumN (cmQ V0 s p) q), vi q] [vi x, vi (V0 110 (8 * p + h) + sumN (cmQ V0 s p) q)] (sI M V) (Vi M (fun z V' => z = cmF V0 h s ∧ V = V')) := by
            rintro x rfl
            refine iX7_comeOf_84 (iX7_comeOf_85 (iX7_comeOf_87 (iX7_comeOf_90 ?_)))
            rw [Int.add_assoc]
            exact ihq (q + 1) (by omega)
          refine iX7_comeOf_40 (iX7_comeOf_42 (jX7_comeOf_43 hS (iX7_comeOf_46 (by omega) (by omega) (fun g2 => ?_) (fun g2 => ?_))))
          · omega
          refine iX7_comeOf_49 (iX7_comeOf_51 (iX7_comeOf_53 (iX7_comeOf_55 (by omega) (by omega) (fun g3 => ?_) (fun g3 => ?_))))
          · refine iX7_comeOf_83 ?_
            exact fin _ (by unfold cmQ; rw [if_neg (by omega)])
          refine iX7_comeOf_58 (iX7_comeOf_59 ?_)
          refine jX7_comeOf_61 (sp_X7_isIn (a := s) (k := q) (by omega) (by omega)) ?_
          refine iX7_comeOf_64 bzR (fun h0 => have g4 := bz_eq h0; ?_) (fun h0 => have g4 := bz_ne h0; ?_)
          · refine iX7_comeOf_83 ?_
            exact fin _ (by unfold cmQ; rw [if_neg (fun z => g4 z.2)])
          · refine iX7_comeOf_67 (jX7_comeOf_68 hS (iX7_comeOf_71 (iX7_comeOf_73 (iX7_comeOf_75 (iX7_comeOf_76 (iX7_comeOf_78 (jX7_comeOf_79 hS ⟨by omega, by omega⟩ (iX7_comeOf_80 ?_))))))))
            rw [t2, e110]
            exact fin _ (by unfold cmQ; rw [if_pos ⟨by omega, g4⟩])
      have := il (nP V0) 0 (by omega)
      rw [show V0 110 (8 * p + h) + sumN (cmQ V0 s p) 0 = V0 110 (8 * p + h) from Int.add_zero _] at this
      exact this
  refine iX7_comeOf_0 (iX7_comeOf_1 (iX7_comeOf_2 (iX7_comeOf_3 ?_)))
  exact loop (nP V0) 0 _ _ (by omega)
abbrev cmC (V : MVal) (h s : Int) : Prop := (0 ≤ h ∧ h < nP V) ∧ (0 ≤ s ∧ s ≤ 255) ∧ ¬ s.toNat.testBit h.toNat = true
def cmZ (V : MVal) (h s : Int) : Int := if cmC V h s then (cmF V h.toNat s.toNat : Int) else -2
theorem sp_come {d : Nat} {M : MH} {V0 V : MVal} (hS : MS (msh M) (mrv M)) (hI : MI V0) (hP : PEq V0 V) {h s : Int} (hh : inR h) (hs : inR s) : MVi mX7_come (d + 4) [vp 94, vi h, vi s] M V (fun z V' => z = cmZ V0 h s ∧ PEq V0 V') := by
  refine mc_of (L := [vp 94, vi h, vi s]) (by decide +kernel) (Nat.le_of_ble_eq_true rfl) rfl ?_
  have n8 := nP_le V0
  have no : ∀ V1, PEq V0 V1 → ¬ cmC V0 h s → MW mX7_come (d + 4) 36 [vp 94, vi h, vi s] [] (sI M V1) (Vi M (fun z V' => z = cmZ V0 h s ∧ PEq V0 V')) := by
    intro V1 h1 h2
    refine iX7_come_36 (iX7_come_38 ?_)
    exact ⟨V1, rfl, by unfold cmZ; rw [if_neg h2], h1⟩
  refine iX7_come_0 (iX7_come_1 ?_)
  refine jX7_come_2 hS (sp_isPerson hS hI.t hP hh) ?_
  rintro z V1 ⟨rfl, hR⟩
  refine iX7_come_5 bzR (fun h0 => have g1 := bz_eq h0; ?_) (fun h0 => have g1 := bz_ne h0; ?_)
  · exact no V1 hR.1 (fun z => g1 z.1)
  refine iX7_come_8 (iX7_come_9 (iX7_come_10 (jX7_come_13 (sp_X7_in (by omega) (by omega) (by omega)) (iX7_come_16 bzR (fun h0 => have g2 := bz_eq h0; ?_) (fun h0 => have g2 := bz_ne h0; ?_)))))
  · exact no V1 hR.1 (fun z => g2 z.2.1)
  obtain ⟨h, rfl⟩ := Int.eq_ofNat_of_zero_le g1.1
  obtain ⟨s, rfl⟩ := Int.eq_ofNat_of_zero_le g2.1
  refine iX7_come_19 (iX7_come_20 ?_)
  refine jX7_come_21 (sp_X7_isIn (a := s) (k := h) (by omega) (by omega)) ?_
  refine iX7_come_24 bzR (fun h0 => have g3 := bz_ne h0; ?_) (fun h0 => have g3 := bz_eq h0; ?_)
  · exact no V1 hR.1 (fun z => z.2.2 g3)
  refine iX7_come_27 (iX7_come_28 (iX7_come_29 ?_))
  refine jX7_come_30 hS (sp_comeOf hS hI hR (h := h) (s := s) (by omega) (by omega)) ?_
  rintro z V2 ⟨rfl, rfl⟩
  refine iX7_come_33 (iX7_come_38 ?_)
  exact ⟨V1, rfl, by unfold cmZ; rw [if_pos ⟨g1, g2, g3⟩]; rfl, hR.1⟩
/-! whom to invite -/
abbrev ivP (V : MVal) (h w k : Nat) (b : Int) : Prop := (¬ k.testBit h = true ∧ w &&& k = w ∧ (b = -1 ∨ cnt k 9 < cnt b.toNat 9)) ∧ w &&& cmF V h k = w
def ivF (V : MVal) (h w : Nat) : Nat → Int
  | 0 => -1
  | k + 1 => if ivP V h w k (ivF V h w k) then (k : Int) else ivF V h w k
theorem ivF_rng (V : MVal) (h w : Nat) : ∀ k, -1 ≤ ivF V h w k ∧ ivF V h w k < k
  | 0 => by simp [ivF]
  | k + 1 => by
    have := ivF_rng V h w k
    unfold ivF
    split <;> omega
set_option maxHeartbeats 4000000 in
theorem sp_inviteOf {d : Nat} {M : MH} {V0 V : MVal} (hS : MS (msh M) (mrv M)) (hI : MI V0) (hR : RSt V0 V) {h w : Nat} (hh : h < nP V0) (hw : w < 256) : MVi mX7_inviteOf (d + 2) [vp 94, vi h, vi w] M V (fun z V' => z = ivF V0 h w (2 ^ nP V0) ∧ V = V') := by
  refine mc_of (L := [vp 94, vi h, vi w, vu, vu, vu]) (by decide +kernel) (Nat.le_of_ble_eq_true rfl) rfl ?_
  have n8 := nP_le V0
  have e5 := hR.2.2.1
  have p2 : 2 ^ nP V0 ≤ 256 := Nat.pow_le_pow_right (n := 2) (by decide) n8
  have hsh : bshl 1 (nP V0 : Int) = ((2 ^ nP V0 : Nat) : Int) := by
    have := bshl_nat (a := 1) (k := nP V0) (by omega) (by omega)
    rw [Nat.one_mul] at this
    exact this
  generalize 2 ^ nP V0 = T at p2 hsh ⊢
  have loop : ∀ f k : Nat, ∀ m5 : MV, k + f = T → MW mX7_inviteOf (d + 2) 5 [vp 94, vi h, vi w, vi (ivF V0 h w k), vi k, m5] [] (sI M V) (Vi M (fun z V' => z = ivF V0 h w (T) ∧ V = V')) := by
    intro f
    induction f with
    | zero =>
      intro k m5 h1
      have : k = T := by omega
      subst this
      refine iX7_inviteOf_5 (iX7_inviteOf_7 (iX7_inviteOf_8 (jX7_inviteOf_9 hS (iX7_inviteOf_12 ?_))))
      rw [e5, hsh]
      refine iX7_inviteOf_13 (by omega) (by omega) (fun g => ?_) (fun g => ?_)
      · refine iX7_inviteOf_90 (iX7_inviteOf_91 ?_)
        exact ⟨V, rfl, rfl, rfl⟩
      · omega
    | succ f ih =>
      intro k m5 h1
      have hk : k < 256 := by omega
      have hb := ivF_rng V0 h w k
      refine iX7_inviteOf_5 (iX7_inviteOf_7 (iX7_inviteOf_8 (jX7_inviteOf_9 hS (iX7_inviteOf_12 ?_))))
      rw [e5, hsh]
      refine iX7_inviteOf_13 (by omega) (by omega) (fun g => ?_) (fun g => ?_)
      · omega
      have es : ivF V0 h w (k + 1) = if ivP V0 h w k (ivF V0 h w k) then (k : Int) else ivF V0 h w k := rfl
      have nx : ∀ (x : Int) (m5 : MV), x = ivF V0 h w (k + 1) → MW mX7_inviteOf (d + 2) 83 [vp 94, vi h, vi w, vi (ivF V0 h w k), vi k, m5] [vi x] (sI M V) (Vi M (fun z V' => z = ivF V0 h w (T) ∧ V = V')) := by
        rintro x m5 rfl
        refine iX7_inviteOf_83 (iX7_inviteOf_84 (iX7_inviteOf_87 ?_))
        exact ih (k + 1) _ (by omega)
      have no : ¬ (¬ k.testBit h = true ∧ w &&& k = w ∧ (ivF V0 h w k = -1 ∨ cnt k 9 < cnt (ivF V0 h w k).toNat 9)) → MW mX7_inviteOf (d + 2) 55 [vp 94, vi h, vi w, vi (ivF V0 h w k), vi k, m5] [] (sI M V) (Vi M (fun z V' => z = ivF V0 h w (T) ∧ V = V')) := by
        intro c
        refine iX7_inviteOf_55 (iX7_inviteOf_56 (iX7_inviteOf_58 (iX7_inviteOf_60 (by omega) (fun g1 => ?_) (fun g1 => ?_))))
        · refine iX7_inviteOf_82 ?_
          exact nx _ _ (by rw [es, if_neg (fun z => c z.1)])
        · exact absurd rfl g1
      have yes : (¬ k.testBit h = true ∧ w &&& k = w ∧ (ivF V0 h w k = -1 ∨ cnt k 9 < cnt (ivF V0 h w k).toNat 9)) → MW mX7_inviteOf (d + 2) 51 [vp 94, vi h, vi w, vi (ivF V0 h w k), vi k, m5] [] (sI M V) (Vi M (fun z V' => z = ivF V0 h w (T) ∧ V = V')) := by
        intro c
        refine iX7_inviteOf_51 (iX7_inviteOf_52 (iX7_inviteOf_56 (iX7_inviteOf_58 (iX7_inviteOf_60 (by omega) (fun g1 => ?_) (fun g1 => ?_)))))
        · exact absurd g1 (by decide)
        refine iX7_inviteOf_63 (iX7_inviteOf_64 (iX7_inviteOf_65 (iX7_inviteOf_66 ?_)))
        refine jX7_inviteOf_68 hS (sp_comeOf hS hI hR (h := h) (s := k) hh hk) ?_
        rintro z V2 ⟨rfl, rfl⟩
        have bR := bandR (w : Int) (bxor (cmF V0 h k : Int) (-1))
        have bN := band_not (a := w) (b := cmF V0 h k) (by omega)
        refine iX7_inviteOf_71 (iX7_inviteOf_72 (iX7_inviteOf_73 (iX7_inviteOf_74 (by omega) (fun g2 => ?_) (fun g2 => ?_))))
        · refine iX7_inviteOf_82 ?_
          exact nx _ _ (by rw [es, if_neg (fun z => g2 (bN.mpr z.2))])
        · refine iX7_inviteOf_77 (iX7_inviteOf_79 ?_)
          exact nx _ _ (by rw [es, if_pos ⟨c, bN.mp g2⟩])
      refine iX7_inviteOf_16 (iX7_inviteOf_18 ?_)
      refine jX7_inviteOf_19 (sp_X7_isIn (a := k) (k := h) (by omega) (by omega)) ?_
      refine iX7_inviteOf_22 bzR (fun h0 => have g1 := bz_ne h0; ?_) (fun h0 => have g1 := bz_eq h0; ?_)
      · exact no (fun z => z.1 g1)
      have bR := bandR (w : Int) (bxor (k : Int) (-1))
      have bN := band_not (a := w) (b := k) (by omega)
      refine iX7_inviteOf_25 (iX7_inviteOf_26 (iX7_inviteOf_28 (iX7_inviteOf_29 (iX7_inviteOf_30 (iX7_inviteOf_31 (by omega) (fun g2 => ?_) (fun g2 => ?_))))))
      · exact no (fun z => g2 (bN.mpr z.2.1))
      refine iX7_inviteOf_34 (iX7_inviteOf_35 (iX7_inviteOf_36 (by omega) (by omega) (fun g3 => ?_) (fun g3 => ?_)))
      · exact yes ⟨g1, bN.mp g2, Or.inl g3⟩
      obtain ⟨bb, hbb⟩ : ∃ bb : Nat, ivF V0 h w k = bb := ⟨(ivF V0 h w k).toNat, by omega⟩
      have c1 := cnt_le k 9
      have c2 := cnt_le bb 9
      refine iX7_inviteOf_39 ?_
      refine jX7_inviteOf_41 (sp_X7_ones (a := k) (by omega)) ?_
      rw [hbb] at no yes ⊢
      refine iX7_inviteOf_44 ?_
      refine jX7_inviteOf_45 (sp_X7_ones (a := bb) (by omega)) ?_
      refine iX7_inviteOf_48 (by omega) (by omega) (fun g4 => ?_) (fun g4 => ?_)
      · refine no (fun z => ?_)
        rcases z.2.2 with z | z
        · omega
        · rw [Int.toNat_natCast] at z; omega
      · exact yes ⟨g1, bN.mp g2, Or.inr (by rw [Int.toNat_natCast]; omega)⟩
  refine iX7_inviteOf_0 (iX7_inviteOf_1 (iX7_inviteOf_2 (iX7_inviteOf_3 ?_)))
  exact loop (T) 0 _ (by omega)
abbrev ivC (V : MVal) (h w : Int) : Prop := (0 ≤ h ∧ h < nP V) ∧ (0 ≤ w ∧ w ≤ ((2 ^ nP V : Nat) : Int) - 1) ∧ ¬ w.toNat.testBit h.toNat = true
def ivZ (V : MVal) (h w : Int) : Int := if ivC V h w then ivF V h.toNat w.toNat (2 ^ nP V) else -2
theorem sp_invite {d : Nat} {M : MH} {V0 V : MVal} (hS : MS (msh M) (mrv M)) (hI : MI V0) (hP : PEq V0 V) {h s : Int} (hh : inR h) (hs : inR s) : MVi mX7_invite (d + 4) [vp 94, vi h, vi s] M V (fun z V' => z = ivZ V0 h s ∧ PEq V0 V') := by
  refine mc_of (L := [vp 94, vi h, vi s]) (by decide +kernel) (Nat.le_of_ble_eq_true rfl) rfl ?_
  have n8 := nP_le V0
  have p2 : 2 ^ nP V0 ≤ 256 := Nat.pow_le_pow_right (n := 2) (by decide) n8
  have hsh : bshl 1 (nP V0 : Int) = ((2 ^ nP V0 : Nat) : Int) := by
    have := bshl_nat (a := 1) (k := nP V0) (by omega) (by omega)
    rw [Nat.one_mul] at this
    exact this
  obtain ⟨T, hT⟩ : ∃ T, 2 ^ nP V0 = T := ⟨_, rfl⟩
  rw [hT] at p2 hsh
  have no : ∀ V1, PEq V0 V1 → ¬ ivC V0 h s → MW mX7_invite (d + 4) 41 [vp 94, vi h, vi s] [] (sI M V1) (Vi M (fun z V' => z = ivZ V0 h s ∧ PEq V0 V')) := by
    intro V1 h1 h2
    refine iX7_invite_41 (iX7_invite_43 ?_)
    exact ⟨V1, rfl, by unfold ivZ; rw [if_neg h2], h1⟩
  refine iX7_invite_0 (iX7_invite_1 ?_)
  refine jX7_invite_2 hS (sp_isPerson hS hI.t hP hh) ?_
  rintro z V1 ⟨rfl, hR⟩
  have e5 := hR.2.2.1
  refine iX7_invite_5 bzR (fun h0 => have g1 := bz_eq h0; ?_) (fun h0 => have g1 := bz_ne h0; ?_)
  · exact no V1 hR.1 (fun z => g1 z.1)
  refine iX7_invite_8 (iX7_invite_9 (iX7_invite_10 (iX7_invite_11 (jX7_invite_12 hS (iX7_invite_15 ?_)))))
  rw [e5, hsh]
  refine iX7_invite_16 (iX7_invite_17 (jX7_invite_18 (sp_X7_in (by omega) (by omega) (by omega)) (iX7_invite_21 bzR (fun h0 => have g2 := bz_eq h0; ?_) (fun h0 => have g2 := bz_ne h0; ?_))))
  · exact no V1 hR.1 (fun z => g2 (by have := z.2.1; rw [hT] at this; exact this))
  obtain ⟨h, rfl⟩ := Int.eq_ofNat_of_zero_le g1.1
  obtain ⟨s, rfl⟩ := Int.eq_ofNat_of_zero_le g2.1
  refine iX7_invite_24 (iX7_invite_25 ?_)
  refine jX7_invite_26 (sp_X7_isIn (a := s) (k := h) (by omega) (by omega)) ?_
  refine iX7_invite_29 bzR (fun h0 => have g3 := bz_ne h0; ?_) (fun h0 => have g3 := bz_eq h0; ?_)
  · exact no V1 hR.1 (fun z => z.2.2 g3)
  refine iX7_invite_32 (iX7_invite_33 (iX7_invite_34 ?_))
  refine jX7_invite_35 hS (sp_inviteOf hS hI hR (h := h) (w := s) (by omega) (by omega)) ?_
  rintro z V2 ⟨rfl, rfl⟩
  refine iX7_invite_38 (iX7_invite_43 ?_)
  exact ⟨V1, rfl, by unfold ivZ; rw [if_pos ⟨g1, by rw [hT]; exact g2, g3⟩]; rfl, hR.1⟩
/-! facts -/
def fcZ (V : MVal) (h b : Int) : Int := if saC h b then (if V 94 23 = 8 then -4 else V 94 23 + 1) else -2
def fcW (V : MVal) (h b : Int) : MVal := if saC h b then (if V 94 23 = 8 then V else u2 (u2 (u2 V 114 (V 94 23).toNat h) 115 (V 94 23).toNat b) 94 23 (V 94 23 + 1)) else V
theorem sp_fact {d : Nat} {M : MH} {V0 V : MVal} (hS : MS (msh M) (mrv M)) (hI : MI V0) (hP : PEq V0 V) {h b : Int} (hh : inR h) (hb : inR b) : MVi mX7_fact (d + 2) [vp 94, vi h, vi b] M V (fun z V' => z = fcZ V0 h b ∧ PEq (fcW V0 h b) V') := by
  refine mc_of (L := [vp 94, vi h, vi b]) (by decide +kernel) (Nat.le_of_ble_eq_true rfl) rfl ?_
  have hs := hI.f
  have e9 := hP.2.2.1
  have no : ¬ saC h b → MW mX7_fact (d + 2) 14 [vp 94, vi h, vi b] [] (sI M V) (Vi M (fun z V' => z = fcZ V0 h b ∧ PEq (fcW V0 h b) V')) := by
    intro g
    refine iX7_fact_14 (iX7_fact_16 ?_)
    exact ⟨V, rfl, by unfold fcZ; rw [if_neg g], by unfold fcW; rw [if_neg g]; exact hP⟩
  refine iX7_fact_0 (jX7_fact_1 (sp_X7_isEight (by omega)) (iX7_fact_4 bzR (fun h0 => have g1 := bz_eq h0; ?_) (fun h0 => have g1 := bz_ne h0; ?_)))
  · exact no (fun z => g1 z.1)
  · refine iX7_fact_7 (jX7_fact_8 (sp_X7_isEight (by omega)) (iX7_fact_11 bzR (fun h0 => have g2 := bz_ne h0; ?_) (fun h0 => have g2 := bz_eq h0; ?_)))
    · refine iX7_fact_17 (jX7_fact_18 hS (iX7_fact_21 (iX7_fact_23 (by omega) (by omega) (fun g3 => ?_) (fun g3 => ?_))))
      · refine iX7_fact_29 (jX7_fact_30 hS (iX7_fact_33 (jX7_fact_34 hS (iX7_fact_37 (jX7_fact_38 hS ⟨by omega, by omega⟩ (iX7_fact_39 (jX7_fact_40 hS (iX7_fact_43 (jX7_fact_44 hS ?_)))))))))
        rw [u2_rd (by decide), e9]
        refine iX7_fact_47 (jX7_fact_48 hS ⟨by omega, by omega⟩ (iX7_fact_49 (iX7_fact_50 (jX7_fact_51 hS ?_))))
        rw [u2_rd (by decide), u2_rd (by decide), e9]
        refine iX7_fact_54 (iX7_fact_55 (jX7_fact_56 hS (iX7_fact_59 (jX7_fact_60 hS (iX7_fact_63 ?_)))))
        rw [u2_at]
        refine ⟨_, rfl, ?_, ?_⟩
        · unfold fcZ; rw [if_pos ⟨g1, g2⟩, if_neg (by omega)]
        · unfold fcW; rw [if_pos ⟨g1, g2⟩, if_neg (by omega)]
          exact ((hP.wr _ _ _).wr _ _ _).wr _ _ _
      · refine iX7_fact_26 (iX7_fact_28 ?_)
        exact ⟨V, rfl, by unfold fcZ; rw [if_pos ⟨g1, g2⟩, if_pos (by omega)], by unfold fcW; rw [if_pos ⟨g1, g2⟩, if_pos (by omega)]; exact hP⟩
    · exact no (fun z => g2 z.2)
theorem sp_forget {d : Nat} {M : MH} {V0 V : MVal} (hS : MS (msh M) (mrv M)) (hI : MI V0) (hP : PEq V0 V) : MVi mX7_forget d [vp 94] M V (fun z V' => z = V0 94 23 ∧ PEq (u2 V0 94 23 0) V') := by
  refine mc_of (L := [vp 94, vu]) (by decide +kernel) (Nat.le_of_ble_eq_true rfl) rfl ?_
  refine iX7_forget_0 (jX7_forget_1 hS (iX7_forget_4 (iX7_forget_5 (iX7_forget_6 (jX7_forget_7 hS (iX7_forget_10 (iX7_forget_11 ?_)))))))
  exact ⟨_, rfl, hP.2.2.1, hP.wr _ _ _⟩
/-! where all were -/
abbrev ftP (V : MVal) (N : NN) (k : Nat) : Prop := V 114 k < nP V ∧ V 115 k < nP V ∧ N.2.1 (V 114 k).toNat = V 115 k
def wyP (V : MVal) (r : Nat) : Prop := ∀ k, k < (V 94 23).toNat → ftP V (runS V (plc V r)) k
def whB (x : Int) : Nat := if x = -1 then 8 else x.toNat
noncomputable def bnF (V : MVal) (p : Nat) : Nat → Nat
  | 0 => 0
  | k + 1 => cif (wyP V k) (bnF V p k ||| 2 ^ whB (plc V k p)) (bnF V p k)
theorem whB_le {V : MVal} (r p : Nat) : whB (plc V r p) ≤ 8 := by
  have := plc_rng V r p
  have := nH_le V
  unfold whB
  split <;> omega
theorem bnF_lt (V : MVal) (p : Nat) : ∀ k, bnF V p k < 512
  | 0 => by show 0 < 512; decide
  | k + 1 => by
    have h := bnF_lt V p k
    unfold bnF
    by_cases c : wyP V k
    · rw [cif_t c]
      have := whB_le (V := V) k p
      exact Nat.or_lt_two_pow (n := 9) h (Nat.pow_lt_pow_right (by decide) (by omega))
    · rw [cif_f c]; exact h
noncomputable def wyN (V : MVal) : Int := if 4 < nP V then -4 else (cntC (wyP V) (rwN V) : Int)
set_option maxHeartbeats 16000000 in
theorem sp_waysNow {d : Nat} {M : MH} {V0 V : MVal} (hS : MS (msh M) (mrv M)) (hI : MI V0) (hP : PEq V0 V) : MVi mX7_waysNow (d + 3) [vp 94] M V (fun z V' => z = wyN V0 ∧ RSt V0 V' ∧ (nP V0 ≤ 4 → ∀ p, p < nP V0 → V' 116 p = bnF V0 p (rwN V0))) := by
  refine mc_of (L := [vp 94, vu, vu, vu, vu, vu]) (by decide +kernel) (Nat.le_of_ble_eq_true rfl) rfl ?_
  have n8 := nP_le V0
  have h8 := nH_le V0
  have hs := hI.s
  have hf := hI.f
  refine iX7_waysNow_0 ?_
  refine jX7_waysNow_1 hS (sp_reads hS hI.t hP) ?_
  intro V1 hR
  have e5 := hR.2.2.1
  refine iX7_waysNow_4 (jX7_waysNow_5 hS (iX7_waysNow_8 (iX7_waysNow_9 (by omega) (by omega) (fun g => ?_) (fun g => ?_))))
  rotate_left
  · refine iX7_waysNow_12 (iX7_waysNow_14 ?_)
    exact ⟨V1, rfl, by unfold wyN; rw [if_pos (by omega)], hR, fun h => absurd h (by omega)⟩
  have h4 : nP V0 ≤ 4 := by omega
  have hrw := rwN_le h4
  have hrp := rwN_pos V0
  have main : ∀ f r : Nat, ∀ (W : MVal) (m4 m5 : MV), r + f = rwN V0 → RSt V0 W → (∀ p, p < nP V0 → W 116 p = bnF V0 p r) → MW mX7_waysNow (d + 3) 47 [vp 94, vi (cntC (wyP V0) r : Int), vi (rwN V0), vi r, m4, m5] [] (sI M W) (Vi M (fun z V' => z = wyN V0 ∧ RSt V0 V' ∧ (nP V0 ≤ 4 → ∀ p, p < nP V0 → V' 116 p = bnF V0 p (rwN V0)))) := by
    intro f
    induction f with
    | zero =>
      intro r W m4 m5 h1 h2 h3
      have : r = rwN V0 := by omega
      subst this
      refine iX7_waysNow_47 (iX7_waysNow_48 (iX7_waysNow_49 (by omega) (by omega) (fun g1 => ?_) (fun g1 => ?_)))
      · refine iX7_waysNow_225 (iX7_waysNow_226 ?_)
        exact ⟨W, rfl, by unfold wyN; rw [if_neg (by omega)], h2, fun _ => h3⟩
      · omega
    | succ f ih =>
      intro r W m4 m5 h1 h2 h3
      refine iX7_waysNow_47 (iX7_waysNow_48 (iX7_waysNow_49 (by omega) (by omega) (fun g1 => ?_) (fun g1 => ?_)))
      · omega
      refine iX7_waysNow_52 (iX7_waysNow_53 ?_)
      refine jX7_waysNow_54 hS (sp_places hS h2 (r := r) (by omega)) ?_
      rintro W2 ⟨a1, a2⟩
      have h2b := h2.frP a1
      refine iX7_waysNow_57 (iX7_waysNow_58 (jX7_waysNow_59 hS ?_))
      rw [h2b.1.2.1]
      refine jX7_waysNow_62 hS (sp_runs hS hI h2b (WR.plc V0 r) a2 hs) ?_
      rintro W3 ⟨b1, b2⟩
      have e116 : ∀ p, p < nP V0 → W3 116 p = bnF V0 p r := fun p hp => by
        rw [b1.1 116 (by decide) (by decide) (by decide) (by decide) (by decide), a1 116 (by decide)]; exact h3 p hp
      have e104 : ∀ p, p < nP V0 → W3 104 p = plc V0 r p := b2.2.1.2.2.2.1
      have e106 : ∀ p, p < nP V0 → W3 106 p = (runS V0 (plc V0 r)).2.1 p := fun p hp => (b2.2.1.2.2.2.2.2 p hp).1
      have rkp : ∀ p, p < nP V0 → 0 ≤ (runS V0 (plc V0 r)).2.1 p ∧ (runS V0 (plc V0 r)).2.1 p < (nP V0 : Int) := fun p hp => ((runS_NR hI (WR.plc V0 r)).2.2.2.2.2 p hp).1
      have e5 := b2.1.2.2.1
      have e23 := b2.1.1.2.2.1
      have e114 := b2.1.1.1 114 rfl
      have e115 := b2.1.1.1 115 rfl
      have hR3 := b2.1
      have ec : ((cntC (wyP V0) (r + 1) : Nat) : Int) = (cntC (wyP V0) r : Int) + ((cif (wyP V0 r) 1 0 : Nat) : Int) := rfl
      have eb : ∀ p, bnF V0 p (r + 1) = cif (wyP V0 r) (bnF V0 p r ||| 2 ^ whB (plc V0 r p)) (bnF V0 p r) := fun p => rfl
      -- where each was, if it may be so
      have bl : ∀ fp p : Nat, ∀ U : MVal, p + fp = nP V0 → wyP V0 r → RSt V0 U → (∀ q, q < nP V0 → U 104 q = plc V0 r q) → (∀ q, q < nP V0 → U 116 q = if q < p then (bnF V0 q (r + 1) : Int) else bnF V0 q r) → MW mX7_waysNow (d + 3) 164 [vp 94, vi (cntC (wyP V0) (r + 1) : Int), vi (rwN V0), vi r, vi 1, vi p] [] (sI M U) (Vi M (fun z V' => z = wyN V0 ∧ RSt V0 V' ∧ (nP V0 ≤ 4 → ∀ p, p < nP V0 → V' 116 p = bnF V0 p (rwN V0)))) := by
        intro fp
        induction fp with
        | zero =>
          intro p U q1 q2 q3 q4 q5
          have e5 := q3.2.2.1
          refine iX7_waysNow_164 (iX7_waysNow_166 (jX7_waysNow_167 hS (iX7_waysNow_170 (by omega) (by omega) (fun g2 => ?_) (fun g2 => ?_))))
          rotate_left
          · omega
          refine iX7_waysNow_219 (iX7_waysNow_222 ?_)
          refine ih (r + 1) U _ _ (by omega) q3 (fun q hq => ?_)
          rw [q5 q hq, if_pos (by omega)]
        | succ fp ihp =>
          intro p U q1 q2 q3 q4 q5
          have hp : p < nP V0 := by omega
          have e5 := q3.2.2.1
          have ek : ((p : Int)).toNat = p := by omega
          have b0 := q5 p hp
          rw [if_neg (by omega)] at b0
          have w0 := q4 p hp
          have wr := plc_rng V0 r p
          have bn := bnF_lt V0 p r
          have wl := whB_le (V := V0) r p
          have pw : 2 ^ whB (plc V0 r p) < 2 ^ 31 := Nat.pow_lt_pow_right (by decide) (by omega)
          have hsh : bshl 1 (whB (plc V0 r p) : Int) = ((2 ^ whB (plc V0 r p) : Nat) : Int) := by
            have := bshl_nat (a := 1) (k := whB (plc V0 r p)) (by omega) (by omega)
            rw [Nat.one_mul] at this
            exact this
          have fin : ∀ x : Int, x = (whB (plc V0 r p) : Int) → MW mX7_waysNow (d + 3) 210 [vp 94, vi (cntC (wyP V0) (r + 1) : Int), vi (rwN V0), vi r, vi 1, vi p] [vi x, vi 1, vi (bnF V0 p r : Int), vi p, vp 116] (sI M U) (Vi M (fun z V' => z = wyN V0 ∧ RSt V0 V' ∧ (nP V0 ≤ 4 → ∀ p, p < nP V0 → V' 116 p = bnF V0 p (rwN V0)))) := by
            rintro x rfl
            refine iX7_waysNow_210 (iX7_waysNow_211 ?_)
            rw [hsh, bor_nat (by omega) pw]
            refine jX7_waysNow_212 hS ⟨by omega, by omega⟩ (iX7_waysNow_213 (iX7_waysNow_216 ?_))
            rw [ek]
            refine ihp (p + 1) _ (by omega) q2 (q3.u rfl (by decide) (by decide)) (fun q hq => by rw [u2_ne (by decide)]; exact q4 q hq) (fun q hq => ?_)
            by_cases e : q = p
            · subst e
              rw [u2_at, if_pos (by omega), eb, cif_t q2]
            · rw [u2_off e, q5 q hq]
              by_cases e2 : q < p
              · rw [if_pos e2, if_pos (by omega)]
              · rw [if_neg e2, if_neg (by omega)]
          refine iX7_waysNow_164 (iX7_waysNow_166 (jX7_waysNow_167 hS (iX7_waysNow_170 (by omega) (by omega) (fun g2 => ?_) (fun g2 => ?_))))
          · omega
          refine iX7_waysNow_173 (iX7_waysNow_175 (by omega) (fun g3 => ?_) (fun g3 => ?_))
          · exact absurd g3 (by decide)
          refine iX7_waysNow_178 (jX7_waysNow_179 hS (iX7_waysNow_182 (iX7_waysNow_184 (jX7_waysNow_185 hS ⟨by omega, by omega⟩ (iX7_waysNow_186 (iX7_waysNow_187 (jX7_waysNow_188 hS (iX7_waysNow_191 (jX7_waysNow_193 hS ⟨by omega, by omega⟩ ?_)))))))))
          rw [ek, b0, w0]
          refine iX7_waysNow_194 (iX7_waysNow_195 (by omega) (by omega) (fun g4 => ?_) (fun g4 => ?_))
          · refine iX7_waysNow_203 (jX7_waysNow_204 hS (iX7_waysNow_207 (jX7_waysNow_209 hS ⟨by omega, by omega⟩ ?_)))
            rw [ek, w0]
            exact fin _ (by unfold whB; rw [if_neg g4]; omega)
          · refine iX7_waysNow_198 (iX7_waysNow_200 ?_)
            exact fin _ (by unfold whB; rw [if_pos (by omega)]; rfl)
      -- may it be so?
      have fl : ∀ fk k : Nat, k + fk = (V0 94 23).toNat → MW mX7_waysNow (d + 3) 71 [vp 94, vi (cntC (wyP V0) r : Int), vi (rwN V0), vi r, vi (cif (∀ j, j < k → ftP V0 (runS V0 (plc V0 r)) j) (1 : Int) 0), vi k] [] (sI M W3) (Vi M (fun z V' => z = wyN V0 ∧ RSt V0 V' ∧ (nP V0 ≤ 4 → ∀ p, p < nP V0 → V' 116 p = bnF V0 p (rwN V0)))) := by
        intro fk
        induction fk with
        | zero =>
          intro k q1
          have : k = (V0 94 23).toNat := by omega
          subst this
          have c01 := cif01 (p := ∀ j, j < (V0 94 23).toNat → ftP V0 (runS V0 (plc V0 r)) j)
          refine iX7_waysNow_71 (iX7_waysNow_73 (jX7_waysNow_74 hS (iX7_waysNow_77 (by omega) (by omega) (fun g2 => ?_) (fun g2 => ?_))))
          rotate_left
          · omega
          refine iX7_waysNow_148 (iX7_waysNow_149 (iX7_waysNow_151 (by omega) (fun g3 => ?_) (fun g3 => ?_)))
          · have nw : ¬ wyP V0 r := cif_e0 g3
            rw [cif_f nw] at ec
            refine iX7_waysNow_158 (iX7_waysNow_159 (iX7_waysNow_160 (iX7_waysNow_161 (iX7_waysNow_162 ?_))))
            have lst : ∀ U : MVal, MW mX7_waysNow (d + 3) 219 [vp 94, vi ((cntC (wyP V0) r : Int) + 0), vi (rwN V0), vi r, vi (cif (∀ j, j < (V0 94 23).toNat → ftP V0 (runS V0 (plc V0 r)) j) (1 : Int) 0), vi 0] [] (sI M W3) (Vi M (fun z V' => z = wyN V0 ∧ RSt V0 V' ∧ (nP V0 ≤ 4 → ∀ p, p < nP V0 → V' 116 p = bnF V0 p (rwN V0)))) := by
              intro _
              refine iX7_waysNow_219 (iX7_waysNow_222 ?_)
              have key := ih (r + 1) W3 (vi (cif (∀ j, j < (V0 94 23).toNat → ftP V0 (runS V0 (plc V0 r)) j) (1 : Int) 0)) (vi 0) (by omega) hR3 (fun p hp => by rw [eb, cif_f nw]; exact e116 p hp)
              rw [ec] at key
              exact key
            refine iX7_waysNow_164 (iX7_waysNow_166 (jX7_waysNow_167 hS (iX7_waysNow_170 (by omega) (by omega) (fun g4 => ?_) (fun g4 => ?_))))
            · exact lst W3
            refine iX7_waysNow_173 (iX7_waysNow_175 (by omega) (fun g5 => ?_) (fun g5 => ?_))
            · exact lst W3
            · exact absurd g3 g5
          · have yw : wyP V0 r := cif_n0 g3
            rw [cif_t yw] at ec
            rw [cif_t (show ∀ j, j < (V0 94 23).toNat → ftP V0 (runS V0 (plc V0 r)) j from yw)]
            refine iX7_waysNow_154 (iX7_waysNow_155 (iX7_waysNow_159 (iX7_waysNow_160 (iX7_waysNow_161 (iX7_waysNow_162 ?_)))))
            have key := bl (nP V0) 0 W3 (by omega) yw hR3 e104 (fun q hq => by rw [if_neg (by omega)]; exact e116 q hq)
            rw [ec] at key
            exact key
        | succ fk ihk =>
          intro k q1
          have ek : ((k : Int)).toNat = k := by omega
          have c01 := cif01 (p := ∀ j, j < k → ftP V0 (runS V0 (plc V0 r)) j)
          have hfe := hI.fe k (by omega)
          have sp : (∀ j, j < k + 1 → ftP V0 (runS V0 (plc V0 r)) j) ↔ (∀ j, j < k → ftP V0 (runS V0 (plc V0 r)) j) ∧ ftP V0 (runS V0 (plc V0 r)) k := ⟨fun z => ⟨fun q hq => z q (by omega), z k (by omega)⟩, fun z q hq => by
            by_cases e : q = k
            · subst e; exact z.2
            · exact z.1 q (by omega)⟩
          have fin : ∀ z : Int, z = cif (∀ j, j < k + 1 → ftP V0 (runS V0 (plc V0 r)) j) (1 : Int) 0 → MW mX7_waysNow (d + 3) 140 [vp 94, vi (cntC (wyP V0) r : Int), vi (rwN V0), vi r, vi (cif (∀ j, j < k → ftP V0 (runS V0 (plc V0 r)) j) (1 : Int) 0), vi k] [vi z] (sI M W3) (Vi M (fun z V' => z = wyN V0 ∧ RSt V0 V' ∧ (nP V0 ≤ 4 → ∀ p, p < nP V0 → V' 116 p = bnF V0 p (rwN V0)))) := by
            rintro z rfl
            refine iX7_waysNow_140 (iX7_waysNow_142 (iX7_waysNow_145 ?_))
            exact ihk (k + 1) (by omega)
          refine iX7_waysNow_71 (iX7_waysNow_73 (jX7_waysNow_74 hS (iX7_waysNow_77 (by omega) (by omega) (fun g2 => ?_) (fun g2 => ?_))))
          · omega
          refine iX7_waysNow_80 (iX7_waysNow_82 (by omega) (fun g3 => ?_) (fun g3 => ?_))
          · refine iX7_waysNow_139 ?_
            exact fin 0 (cif_f (fun z => cif_e0 g3 (sp.mp z).1)).symm
          refine iX7_waysNow_85 (jX7_waysNow_86 hS (iX7_waysNow_89 (jX7_waysNow_91 hS ⟨by omega, by omega⟩ ?_)))
          rw [ek, e114]
          refine iX7_waysNow_92 (jX7_waysNow_93 hS (iX7_waysNow_96 (by omega) (by omega) (fun g4 => ?_) (fun g4 => ?_)))
          · refine iX7_waysNow_139 ?_
            exact fin 0 (cif_f (fun z => by have := (sp.mp z).2.1; omega)).symm
          refine iX7_waysNow_99 (jX7_waysNow_100 hS (iX7_waysNow_103 (jX7_waysNow_105 hS ⟨by omega, by omega⟩ ?_)))
          rw [ek, e115]
          refine iX7_waysNow_106 (jX7_waysNow_107 hS (iX7_waysNow_110 (by omega) (by omega) (fun g5 => ?_) (fun g5 => ?_)))
          · refine iX7_waysNow_139 ?_
            exact fin 0 (cif_f (fun z => by have := (sp.mp z).2.2.1; omega)).symm
          obtain ⟨wx, hwx⟩ := Int.eq_ofNat_of_zero_le hfe.1.1
          have k6 := e106 wx (by omega)
          have k7 := rkp wx (by omega)
          refine iX7_waysNow_113 (jX7_waysNow_114 hS (iX7_waysNow_117 (jX7_waysNow_118 hS (iX7_waysNow_121 (jX7_waysNow_123 hS ⟨by omega, by omega⟩ ?_)))))
          rw [ek, e114, hwx]
          refine jX7_waysNow_124 hS ⟨by omega, by omega⟩ (iX7_waysNow_125 (jX7_waysNow_126 hS (iX7_waysNow_129 (jX7_waysNow_131 hS ⟨by omega, by omega⟩ ?_))))
          rw [ek, e115, Int.toNat_natCast, k6]
          refine iX7_waysNow_132 (by omega) (by omega) (fun g6 => ?_) (fun g6 => ?_)
          · refine iX7_waysNow_139 ?_
            exact fin 0 (cif_f (fun z => by have := (sp.mp z).2.2.2; rw [hwx, Int.toNat_natCast] at this; exact g6 this)).symm
          · refine iX7_waysNow_135 (iX7_waysNow_136 ?_)
            exact fin 1 (cif_t (sp.mpr ⟨cif_n0 g3, by omega, by omega, by rw [hwx, Int.toNat_natCast]; exact g6⟩)).symm
      refine iX7_waysNow_65 (iX7_waysNow_66 (iX7_waysNow_68 (iX7_waysNow_69 ?_)))
      have key := fl (V0 94 23).toNat 0 (by omega)
      rw [cif_t (fun j hj => absurd hj (by omega))] at key
      exact key
  have zl : ∀ f p : Nat, ∀ U : MVal, p + f = nP V0 → RSt V0 U → (∀ q, q < p → U 116 q = 0) → MW mX7_waysNow (d + 3) 17 [vp 94, vi p, vu, vu, vu, vu] [] (sI M U) (Vi M (fun z V' => z = wyN V0 ∧ RSt V0 V' ∧ (nP V0 ≤ 4 → ∀ p, p < nP V0 → V' 116 p = bnF V0 p (rwN V0)))) := by
    intro f
    induction f with
    | zero =>
      intro p U q1 q2 q3
      have e5 := q2.2.2.1
      refine iX7_waysNow_17 (iX7_waysNow_18 (jX7_waysNow_19 hS (iX7_waysNow_22 (by omega) (by omega) (fun g2 => ?_) (fun g2 => ?_))))
      rotate_left
      · omega
      refine iX7_waysNow_38 (iX7_waysNow_39 (iX7_waysNow_40 ?_))
      refine jX7_waysNow_41 hS (sp_rows hS q2 h4) ?_
      rintro z U2 ⟨rfl, rfl⟩
      refine iX7_waysNow_44 (iX7_waysNow_45 (iX7_waysNow_46 ?_))
      exact main (rwN V0) 0 U _ _ (by omega) q2 (fun q hq => q3 q (by omega))
    | succ f ih =>
      intro p U q1 q2 q3
      have e5 := q2.2.2.1
      have ek : ((p : Int)).toNat = p := by omega
      refine iX7_waysNow_17 (iX7_waysNow_18 (jX7_waysNow_19 hS (iX7_waysNow_22 (by omega) (by omega) (fun g2 => ?_) (fun g2 => ?_))))
      · omega
      refine iX7_waysNow_25 (jX7_waysNow_26 hS (iX7_waysNow_29 (iX7_waysNow_30 (jX7_waysNow_31 hS ⟨by omega, by omega⟩ (iX7_waysNow_32 (iX7_waysNow_35 ?_))))))
      rw [ek]
      refine ih (p + 1) _ (by omega) (q2.u rfl (by decide) (by decide)) (fun q hq => ?_)
      by_cases e : q = p
      · subst e; rw [u2_at]
      · rw [u2_off e]; exact q3 q (by omega)
  refine iX7_waysNow_15 (iX7_waysNow_16 ?_)
  exact zl (nP V0) 0 V1 (by omega) hR (fun q hq => absurd hq (by omega))
noncomputable def weZ (V : MVal) (p : Int) : Int := if p = -1 ∨ (0 ≤ p ∧ p < nP V) then (if 4 < nP V then -4 else if p = -1 then (cntC (wyP V) (rwN V) : Int) else (bnF V p.toNat (rwN V) : Int)) else -2
theorem sp_were {d : Nat} {M : MH} {V0 V : MVal} (hS : MS (msh M) (mrv M)) (hI : MI V0) (hP : PEq V0 V) {p : Int} (hp : inR p) : MVi mX7_were (d + 4) [vp 94, vi p] M V (fun z V' => z = weZ V0 p ∧ PEq V0 V') := by
  refine mc_of (L := [vp 94, vi p, vu]) (by decide +kernel) (Nat.le_of_ble_eq_true rfl) rfl ?_
  have n8 := nP_le V0
  have yes : ∀ V1, PEq V0 V1 → (p = -1 ∨ (0 ≤ p ∧ p < nP V0)) → MW mX7_were (d + 4) 16 [vp 94, vi p, vu] [] (sI M V1) (Vi M (fun z V' => z = weZ V0 p ∧ PEq V0 V')) := by
    intro V1 h1 h2
    refine iX7_were_16 ?_
    refine jX7_were_17 hS (sp_waysNow hS hI h1) ?_
    rintro z V2 ⟨rfl, h3, h4⟩
    unfold weZ
    rw [if_pos h2]
    by_cases c : 4 < nP V0
    · rw [if_pos c, show wyN V0 = -4 by unfold wyN; rw [if_pos c]]
      refine iX7_were_20 (iX7_were_21 (iX7_were_22 (iX7_were_24 (by omega) (by omega) (fun g => ?_) (fun g => ?_))))
      · refine iX7_were_32 (iX7_were_33 (iX7_were_42 ?_))
        exact ⟨V2, rfl, rfl, h3.1⟩
      · exact absurd rfl g
    · have hrw := rwN_le (V := V0) (by omega)
      have hc := cntC_le (wyP V0) (rwN V0)
      rw [if_neg c, show wyN V0 = (cntC (wyP V0) (rwN V0) : Int) by unfold wyN; rw [if_neg c]]
      refine iX7_were_20 (iX7_were_21 (iX7_were_22 (iX7_were_24 (by omega) (by omega) (fun g => ?_) (fun g => ?_))))
      · omega
      refine iX7_were_27 (iX7_were_28 (iX7_were_29 (by omega) (by omega) (fun g1 => ?_) (fun g1 => ?_)))
      · refine iX7_were_36 (jX7_were_37 hS (iX7_were_40 (jX7_were_41 hS ⟨by omega, by omega⟩ (iX7_were_42 ?_))))
        exact ⟨V2, rfl, by rw [if_neg g1]; exact h4 (by omega) _ (by omega), h3.1⟩
      · refine iX7_were_32 (iX7_were_33 (iX7_were_42 ?_))
        exact ⟨V2, rfl, by rw [if_pos (by omega)], h3.1⟩
  refine iX7_were_0 (iX7_were_1 (iX7_were_2 (by omega) (by omega) (fun g => ?_) (fun g => ?_)))
  · exact yes V hP (Or.inl g)
  refine iX7_were_5 (iX7_were_6 ?_)
  refine jX7_were_7 hS (sp_isPerson hS hI.t hP hp) ?_
  rintro z V1 ⟨rfl, hR⟩
  refine iX7_were_10 bzR (fun h0 => have g1 := bz_ne h0; ?_) (fun h0 => have g1 := bz_eq h0; ?_)
  · exact yes V1 hR.1 (Or.inr g1)
  · refine iX7_were_13 (iX7_were_15 ?_)
    exact ⟨V1, rfl, by unfold weZ; rw [if_neg (fun z => z.elim g g1)], hR.1⟩
noncomputable def bdZ (V : MVal) : Int := if 4 < nP V then -4 else (bitsN (fun p => !(bnF V p (rwN V)).testBit (whB (pl V p))) (nP V) : Int)
set_option maxHeartbeats 4000000 in
theorem sp_bed {d : Nat} {M : MH} {V0 V : MVal} (hS : MS (msh M) (mrv M)) (hI : MI V0) (hP : PEq V0 V) : MVi mX7_bed (d + 4) [vp 94] M V (fun z V' => z = bdZ V0 ∧ PEq V0 V') := by
  refine mc_of (L := [vp 94, vu, vu]) (by decide +kernel) (Nat.le_of_ble_eq_true rfl) rfl ?_
  have n8 := nP_le V0
  have h8 := nH_le V0
  refine iX7_bed_0 ?_
  refine jX7_bed_1 hS (sp_waysNow hS hI hP) ?_
  rintro z V2 ⟨rfl, h3, h4⟩
  unfold bdZ
  by_cases c : 4 < nP V0
  · rw [if_pos c, show wyN V0 = -4 by unfold wyN; rw [if_pos c]]
    refine iX7_bed_4 (iX7_bed_6 (by omega) (by omega) (fun g => ?_) (fun g => ?_))
    · exact absurd rfl g
    · refine iX7_bed_9 (iX7_bed_11 ?_)
      exact ⟨V2, rfl, rfl, h3.1⟩
  have hrw := rwN_le (V := V0) (by omega)
  have hc := cntC_le (wyP V0) (rwN V0)
  have hB := h4 (by omega)
  have e5 := h3.2.2.1
  rw [if_neg c, show wyN V0 = (cntC (wyP V0) (rwN V0) : Int) by unfold wyN; rw [if_neg c]]
  refine iX7_bed_4 (iX7_bed_6 (by omega) (by omega) (fun g => ?_) (fun g => ?_))
  rotate_left
  · omega
  have loop : ∀ f p : Nat, p + f = nP V0 → MW mX7_bed (d + 4) 16 [vp 94, vi (bitsN (fun p => !(bnF V0 p (rwN V0)).testBit (whB (pl V0 p))) p : Int), vi p] [] (sI M V2) (Vi M (fun z V' => z = (bitsN (fun p => !(bnF V0 p (rwN V0)).testBit (whB (pl V0 p))) (nP V0) : Int) ∧ PEq V0 V')) := by
    intro f
    induction f with
    | zero =>
      intro p h1
      have : p = nP V0 := by omega
      subst this
      refine iX7_bed_16 (iX7_bed_17 (jX7_bed_18 hS (iX7_bed_21 (by omega) (by omega) (fun g1 => ?_) (fun g1 => ?_))))
      · refine iX7_bed_73 (iX7_bed_74 ?_)
        exact ⟨V2, rfl, rfl, h3.1⟩
      · omega
    | succ f ih =>
      intro p h1
      have hp : p < nP V0 := by omega
      have ek : ((p : Int)).toNat = p := by omega
      have b0 := hB p hp
      have p0 := (h3.2.2.2.2 p hp).2
      have pr := pl_rng hp
      have bn := bnF_lt V0 p (rwN V0)
      have wl : whB (pl V0 p) ≤ 8 := by unfold whB; split <;> omega
      have fin : ∀ x : Int, x = (whB (pl V0 p) : Int) → MW mX7_bed (d + 4) 52 [vp 94, vi (bitsN (fun p => !(bnF V0 p (rwN V0)).testBit (whB (pl V0 p))) p : Int), vi p] [vi x, vi (bnF V0 p (rwN V0) : Int), vi (bitsN (fun p => !(bnF V0 p (rwN V0)).testBit (whB (pl V0 p))) p : Int)] (sI M V2) (Vi M (fun z V' => z = (bitsN (fun p => !(bnF V0 p (rwN V0)).testBit (whB (pl V0 p))) (nP V0) : Int) ∧ PEq V0 V')) := by
        rintro x rfl
        have key := ih (p + 1) (by omega)
        refine jX7_bed_52 (sp_X7_isIn (a := bnF V0 p (rwN V0)) (k := whB (pl V0 p)) (by omega) (by omega)) ?_
        refine iX7_bed_55 bzR (fun h0 => have g2 := bz_eq h0; ?_) (fun h0 => have g2 := bz_ne h0; ?_)
        · refine iX7_bed_62 (iX7_bed_63 (iX7_bed_64 ?_))
          rw [← bits_on (by omega) (by rw [Bool.eq_false_iff.mpr g2]; rfl)] at key
          refine iX7_bed_65 (iX7_bed_66 (iX7_bed_67 (iX7_bed_70 ?_)))
          exact key
        · refine iX7_bed_58 (iX7_bed_59 ?_)
          rw [← bits_off (by omega) (by rw [g2]; rfl)] at key
          refine iX7_bed_65 (iX7_bed_66 (iX7_bed_67 (iX7_bed_70 ?_)))
          exact key
      refine iX7_bed_16 (iX7_bed_17 (jX7_bed_18 hS (iX7_bed_21 (by omega) (by omega) (fun g1 => ?_) (fun g1 => ?_))))
      · omega
      refine iX7_bed_24 (iX7_bed_25 (jX7_bed_26 hS (iX7_bed_29 (jX7_bed_30 hS ⟨by omega, by omega⟩ (iX7_bed_31 (jX7_bed_32 hS (iX7_bed_35 (jX7_bed_36 hS ⟨by omega, by omega⟩ ?_))))))))
      rw [ek, b0, p0]
      refine iX7_bed_37 (iX7_bed_38 (by omega) (by omega) (fun g2 => ?_) (fun g2 => ?_))
      · refine iX7_bed_46 (jX7_bed_47 hS (iX7_bed_50 (jX7_bed_51 hS ⟨by omega, by omega⟩ ?_)))
        rw [ek, p0]
        exact fin _ (by unfold whB; rw [if_neg g2]; omega)
      · refine iX7_bed_41 (iX7_bed_43 ?_)
        exact fin _ (by unfold whB; rw [if_pos (by omega)]; rfl)
  refine iX7_bed_12 (iX7_bed_13 (iX7_bed_14 (iX7_bed_15 ?_)))
  exact loop (nP V0) 0 (by omega)
