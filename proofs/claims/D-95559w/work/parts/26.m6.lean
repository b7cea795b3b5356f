/-! the model: type, wipe, fault, house, person, law, sale, undo -/
def cap (t : Int) : Int := if t = 0 then 30 else 24
def tyZ (V : MVal) (t b : Int) : Int := if (0 ≤ t ∧ t ≤ 1) ∧ 0 ≤ b ∧ b ≤ 255 then (if V 95 t.toNat = cap t then -4 else V 95 t.toNat + 1) else -2
def tyW (V : MVal) (t b : Int) : MVal := if (0 ≤ t ∧ t ≤ 1) ∧ 0 ≤ b ∧ b ≤ 255 then (if V 95 t.toNat = cap t then V else u2 (u2 V 96 (30 * t + V 95 t.toNat).toNat b) 95 t.toNat (V 95 t.toNat + 1)) else V
theorem MT.at {V : MVal} (h : MT V) {t : Int} (ht : 0 ≤ t ∧ t ≤ 1) : 0 ≤ V 95 t.toNat ∧ V 95 t.toNat ≤ cap t ∧ cap t ≤ 30 ∧ 30 * t + cap t ≤ 60 := by
  have h1 := h.1
  have h2 := h.2.1
  obtain rfl | rfl : t = 0 ∨ t = 1 := by omega
  · exact ⟨h1.1, h1.2, by decide, by decide⟩
  · exact ⟨h2.1, h2.2, by decide, by decide⟩
theorem u2_rd {V : MVal} {p i q j : Nat} {x : Int} (h : q ≠ p) : u2 V p i x q j = V q j := by rw [u2_ne h]
theorem sp_type {d : Nat} {M : MH} {V0 V : MVal} (hS : MS (msh M) (mrv M)) (hT : MT V0) (hP : PEq V0 V) {t b : Int} (ht : inR t) (hb : inR b) : MVi mX7_type (d + 1) [vp 94, vi t, vi b] M V (fun z V' => z = tyZ V0 t b ∧ PEq (tyW V0 t b) V') := by
  refine mc_of (L := [vp 94, vi t, vi b]) (by decide +kernel) (Nat.le_of_ble_eq_true rfl) rfl ?_
  have bad : ¬ ((0 ≤ t ∧ t ≤ 1) ∧ 0 ≤ b ∧ b ≤ 255) → MW mX7_type (d + 1) 20 [vp 94, vi t, vi b] [] (sI M V) (Vi M (fun z V' => z = tyZ V0 t b ∧ PEq (tyW V0 t b) V')) := by
    intro h
    refine iX7_type_20 (iX7_type_22 ?_)
    exact ⟨V, rfl, by unfold tyZ; rw [if_neg h], by unfold tyW; rw [if_neg h]; exact hP⟩
  refine iX7_type_0 (iX7_type_1 (iX7_type_2 (jX7_type_3 (sp_X7_in (by omega) (by omega) (by omega)) (iX7_type_6 bzR (fun h0 => have g1 := bz_eq h0; ?_) (fun h0 => have g1 := bz_ne h0; ?_)))))
  · exact bad (by omega)
  · refine iX7_type_9 (iX7_type_10 (iX7_type_11 (jX7_type_14 (sp_X7_in (by omega) (by omega) (by omega)) (iX7_type_17 bzR (fun h0 => have g2 := bz_ne h0; ?_) (fun h0 => have g2 := bz_eq h0; ?_)))))
    · have e95 := hP.1 95 rfl
      obtain ⟨m1, m2, m3, m4⟩ := hT.at g1
      have eV : V 95 t.toNat = V0 95 t.toNat := by rw [e95]
      have go : MW mX7_type (d + 1) 40 [vp 94, vi t, vi b] [vi (cap t), vi (V 95 t.toNat)] (sI M V) (Vi M (fun z V' => z = tyZ V0 t b ∧ PEq (tyW V0 t b) V')) := by
        refine iX7_type_40 (by omega) (by omega) (fun g3 => ?_) (fun g3 => ?_)
        · refine iX7_type_46 (jX7_type_47 hS (iX7_type_50 (iX7_type_52 (iX7_type_53 (iX7_type_54 (jX7_type_55 hS (iX7_type_58 (jX7_type_59 hS ⟨by omega, by omega⟩ (iX7_type_60 (iX7_type_61 (jX7_type_62 hS ⟨by omega, by omega⟩ (iX7_type_63 (jX7_type_64 hS (iX7_type_67 (iX7_type_68 (jX7_type_69 hS ⟨by omega, by omega⟩ ?_))))))))))))))))
          rw [u2_rd (by decide)]
          have e1 : u2 V 96 (30 * t + V 95 t.toNat).toNat b 95 t.toNat = V 95 t.toNat := u2_rd (by decide)
          refine iX7_type_70 (iX7_type_71 (jX7_type_72 hS ⟨by omega, by omega⟩ (iX7_type_73 (jX7_type_74 hS (iX7_type_77 (jX7_type_78 hS ⟨by omega, by omega⟩ (iX7_type_79 ?_)))))))
          refine ⟨_, rfl, ?_, ?_⟩
          · unfold tyZ
            rw [if_pos ⟨g1, g2⟩, if_neg (by omega), u2_at, eV]
          · unfold tyW
            rw [if_pos ⟨g1, g2⟩, if_neg (by omega), eV]
            exact (hP.wr _ _ _).wr _ _ _
        · refine iX7_type_43 (iX7_type_45 ?_)
          exact ⟨V, rfl, by unfold tyZ; rw [if_pos ⟨g1, g2⟩, if_pos (by omega)], by unfold tyW; rw [if_pos ⟨g1, g2⟩, if_pos (by omega)]; exact hP⟩
      refine iX7_type_23 (jX7_type_24 hS (iX7_type_27 (jX7_type_28 hS ⟨by omega, by omega⟩ (iX7_type_29 (iX7_type_30 (by omega) (fun g4 => ?_) (fun g4 => ?_))))))
      · refine iX7_type_38 ?_
        rw [show (24 : Int) = cap t by unfold cap; rw [if_neg g4]]
        exact go
      · refine iX7_type_33 (iX7_type_35 ?_)
        rw [show (30 : Int) = cap t by unfold cap; rw [if_pos g4]]
        exact go
    · exact bad (by omega)
def wpZ (V : MVal) (t : Int) : Int := if 0 ≤ t ∧ t ≤ 1 then V 95 t.toNat else -2
def wpW (V : MVal) (t : Int) : MVal := if 0 ≤ t ∧ t ≤ 1 then u2 V 95 t.toNat 0 else V
theorem sp_wipe {d : Nat} {M : MH} {V0 V : MVal} (hS : MS (msh M) (mrv M)) (hT : MT V0) (hP : PEq V0 V) {t : Int} (ht : inR t) : MVi mX7_wipe (d + 1) [vp 94, vi t] M V (fun z V' => z = wpZ V0 t ∧ PEq (wpW V0 t) V') := by
  refine mc_of (L := [vp 94, vi t, vu]) (by decide +kernel) (Nat.le_of_ble_eq_true rfl) rfl ?_
  refine iX7_wipe_0 (iX7_wipe_1 (iX7_wipe_2 (jX7_wipe_3 (sp_X7_in (by omega) (by omega) (by omega)) (iX7_wipe_6 bzR (fun h0 => have g1 := bz_ne h0; ?_) (fun h0 => have g1 := bz_eq h0; ?_)))))
  · refine iX7_wipe_12 (jX7_wipe_13 hS (iX7_wipe_16 (jX7_wipe_17 hS ⟨by omega, by omega⟩ (iX7_wipe_18 (iX7_wipe_19 (jX7_wipe_20 hS (iX7_wipe_23 (iX7_wipe_24 (jX7_wipe_25 hS ⟨by omega, by omega⟩ (iX7_wipe_26 (iX7_wipe_27 ?_)))))))))))
    refine ⟨_, rfl, ?_, ?_⟩
    · unfold wpZ
      rw [if_pos g1, hP.1 95 rfl]
    · unfold wpW
      rw [if_pos g1]
      exact hP.wr _ _ _
  · refine iX7_wipe_9 (iX7_wipe_11 ?_)
    exact ⟨V, rfl, by unfold wpZ; rw [if_neg g1], by unfold wpW; rw [if_neg g1]; exact hP⟩
def ftZ (V : MVal) (t : Int) : Int := if t = 0 then fH V else if t = 1 then fP V else -2
theorem PEq.ofPH {V0 V V' : MVal} {z : Int} (hP : PEq V0 V) (h : PH V z V') : PEq V0 V' := by
  obtain ⟨-, -, -, a4, a5⟩ := h
  exact ⟨fun q hq => by rw [a4 q (fun e => by rw [e] at hq; cases hq) (fun e => by rw [e] at hq; cases hq) (fun e => by rw [e] at hq; cases hq)]; exact hP.1 q hq, by rw [a5 9 (by decide)]; exact hP.2.1, by rw [a5 23 (by decide)]; exact hP.2.2.1, by rw [a5 32 (by decide)]; exact hP.2.2.2⟩
theorem PEq.ofPPl {V0 V V' : MVal} {z : Int} (hP : PEq V0 V) (h : PPl V z V') : PEq V0 V' := by
  obtain ⟨-, -, -, a4, a5⟩ := h
  exact ⟨fun q hq => by rw [a4 q (fun e => by rw [e] at hq; cases hq) (fun e => by rw [e] at hq; cases hq) (fun e => by rw [e] at hq; cases hq)]; exact hP.1 q hq, by rw [a5 9 (by decide)]; exact hP.2.1, by rw [a5 23 (by decide)]; exact hP.2.2.1, by rw [a5 32 (by decide)]; exact hP.2.2.2⟩
theorem sp_faultOf2 {d : Nat} {M : MH} {V0 V : MVal} (hS : MS (msh M) (mrv M)) (hT : MT V0) (hP : PEq V0 V) {t : Int} (ht : 0 ≤ t ∧ t ≤ 1) : MVi mX7_faultOf (d + 2) [vp 94, vi t] M V (fun z V' => z = ftZ V0 t ∧ PEq V0 V') := by
  obtain ⟨n, rfl⟩ : ∃ n : Nat, t = n := ⟨t.toNat, by omega⟩
  refine MC.mono (sp_faultOf hS (hP.MT hT) (t := n) (by omega)) ?_
  rintro o M' ⟨z, rfl, V', rfl, h⟩
  refine ⟨z, rfl, V', rfl, ?_⟩
  have h : if n = 0 then PH V z V' else PPl V z V' := h
  split at h
  · rename_i e
    subst e
    exact ⟨by rw [h.1, hP.fH]; rfl, hP.ofPH h⟩
  · rename_i e
    obtain rfl : n = 1 := by omega
    exact ⟨by rw [h.1, hP.fP]; rfl, hP.ofPPl h⟩
theorem sp_fault {d : Nat} {M : MH} {V0 V : MVal} (hS : MS (msh M) (mrv M)) (hT : MT V0) (hP : PEq V0 V) {t : Int} (ht : inR t) : MVi mX7_fault (d + 3) [vp 94, vi t] M V (fun z V' => z = ftZ V0 t ∧ PEq V0 V') := by
  refine mc_of (L := [vp 94, vi t]) (by decide +kernel) (Nat.le_of_ble_eq_true rfl) rfl ?_
  refine iX7_fault_0 (iX7_fault_1 (iX7_fault_2 (jX7_fault_3 (sp_X7_in (by omega) (by omega) (by omega)) (iX7_fault_6 bzR (fun h0 => have g1 := bz_eq h0; ?_) (fun h0 => have g1 := bz_ne h0; ?_)))))
  · refine iX7_fault_17 (iX7_fault_19 ?_)
    exact ⟨V, rfl, by unfold ftZ; rw [if_neg (by omega), if_neg (by omega)], hP⟩
  · refine iX7_fault_9 (iX7_fault_10 ?_)
    refine jX7_fault_11 hS (sp_faultOf2 hS hT hP g1) ?_
    rintro z V' ⟨rfl, h⟩
    refine iX7_fault_14 (iX7_fault_19 ?_)
    exact ⟨V', rfl, rfl, h⟩
/-! bits gathered one by one -/
def bitsN (f : Nat → Bool) : Nat → Nat
  | 0 => 0
  | n + 1 => bitsN f n + if f n = true then 2 ^ n else 0
theorem bitsN_lt (f : Nat → Bool) : ∀ n, bitsN f n < 2 ^ n
  | 0 => by show 0 < 1; decide
  | n + 1 => by
    have := bitsN_lt f n
    unfold bitsN
    rw [Nat.pow_succ]
    split <;> omega
theorem bitsN_lt31 (f : Nat → Bool) {n : Nat} (hn : n ≤ 30) : bitsN f n < 2 ^ 30 := Nat.lt_of_lt_of_le (bitsN_lt f n) (Nat.pow_le_pow_right (by decide) hn)
theorem bits_on {f : Nat → Bool} {n : Nat} (hn : n < 30) (h : f n = true) : bor (bitsN f n) (bshl 1 n) = ((bitsN f (n + 1) : Nat) : Int) := by
  have h1 := bitsN_lt f n
  have h2 : 2 ^ n < 2 ^ 30 := Nat.pow_lt_pow_right (by decide) hn
  have h3 : bshl 1 n = ((2 ^ n : Nat) : Int) := by
    have := bshl_nat (a := 1) (k := n) (by omega) (by omega)
    rw [Nat.one_mul] at this
    exact this
  rw [h3, bor_nat (by omega) (by omega)]
  have h4 := Nat.two_pow_add_eq_or_of_lt h1 1
  rw [Nat.mul_one] at h4
  rw [Nat.or_comm, ← h4]
  show _ = ((bitsN f n + if f n = true then 2 ^ n else 0 : Nat) : Int)
  rw [if_pos h, Nat.add_comm]
theorem bits_off {f : Nat → Bool} {n : Nat} (hn : n < 30) (h : f n = false) : bor (bitsN f n) 0 = ((bitsN f (n + 1) : Nat) : Int) := by
  have h1 := bitsN_lt31 f (n := n) (by omega)
  have := bor_nat (a := bitsN f n) (b := 0) (by omega) (by decide)
  rw [Nat.or_zero] at this
  rw [show (0 : Int) = ((0 : Nat) : Int) from rfl, this]
  show _ = ((bitsN f n + if f n = true then 2 ^ n else 0 : Nat) : Int)
  rw [h]
  simp
def hsQ (V : MVal) (h : Nat) (w : Int) : Int := if w = 0 then ow V h else if w = 1 then pr V h else bitsN (fun p => pl V p == (h : Int)) (nP V)
def psQ (V : MVal) (p : Nat) (w : Int) : Int := if w = 0 then kd V p else if w = 1 then pl V p else bitsN (fun h => ow V h == (p : Int)) (nH V)
theorem sp_houseOf {d : Nat} {M : MH} {V0 V : MVal} (hS : MS (msh M) (mrv M)) (hR : RSt V0 V) {h : Nat} (hh : h < nH V0) {w : Int} (hw : 0 ≤ w ∧ w ≤ 2) : MVi mX7_houseOf d [vp 94, vi h, vi w] M V (fun z V' => z = hsQ V0 h w ∧ V = V') := by
  refine mc_of (L := [vp 94, vi h, vi w, vu, vu]) (by decide +kernel) (Nat.le_of_ble_eq_true rfl) rfl ?_
  obtain ⟨hP, r2, r5, rh, rp⟩ := hR
  have n8 := nH_le V0
  have p8 := nP_le V0
  refine iX7_houseOf_0 (iX7_houseOf_1 (iX7_houseOf_2 (iX7_houseOf_3 ?_)))
  have loop : ∀ f k : Nat, ∀ x y : Int, k + f = nP V0 → y = k → x = bitsN (fun p => pl V0 p == (h : Int)) k → MW mX7_houseOf d 5 [vp 94, vi h, vi w, vi x, vi y] [] (sI M V) (Vi M (fun z V' => z = hsQ V0 h w ∧ V = V')) := by
    intro f
    induction f with
    | zero =>
      intro k x y h1 h2 h3
      obtain rfl : k = nP V0 := by omega
      have eh : ((h : Int)).toNat = h := by omega
      refine iX7_houseOf_5 (iX7_houseOf_7 (jX7_houseOf_8 hS (iX7_houseOf_11 (by omega) (by omega) (fun g => ?_) (fun g => ?_))))
      · refine iX7_houseOf_42 (iX7_houseOf_43 (by omega) (fun g1 => ?_) (fun g1 => ?_))
        · refine iX7_houseOf_55 (iX7_houseOf_56 (iX7_houseOf_57 (by omega) (by omega) (fun g2 => ?_) (fun g2 => ?_)))
          · refine iX7_houseOf_69 (iX7_houseOf_70 ?_)
            exact ⟨V, rfl, by unfold hsQ; rw [if_neg g1, if_neg g2]; exact h3, rfl⟩
          · refine iX7_houseOf_60 (jX7_houseOf_61 hS (iX7_houseOf_64 (jX7_houseOf_65 hS ⟨by omega, by omega⟩ (iX7_houseOf_66 (iX7_houseOf_70 ?_)))))
            exact ⟨V, rfl, by unfold hsQ; rw [if_neg g1, if_pos g2, eh]; exact (rh h hh).2, rfl⟩
        · refine iX7_houseOf_46 (jX7_houseOf_47 hS (iX7_houseOf_50 (jX7_houseOf_51 hS ⟨by omega, by omega⟩ (iX7_houseOf_52 (iX7_houseOf_70 ?_)))))
          exact ⟨V, rfl, by unfold hsQ; rw [if_pos g1, eh]; exact (rh h hh).1, rfl⟩
      · omega
    | succ f ih =>
      intro k x y h1 h2 h3
      subst h2 h3
      have ek : ((k : Int)).toNat = k := by omega
      have hb := bitsN_lt31 (fun p => pl V0 p == (h : Int)) (n := k) (by omega)
      have rr := pl_rng (V := V0) (j := k) (by omega)
      have e1 := (rp k (by omega)).2
      refine iX7_houseOf_5 (iX7_houseOf_7 (jX7_houseOf_8 hS (iX7_houseOf_11 (by omega) (by omega) (fun g => ?_) (fun g => ?_))))
      · omega
      · refine iX7_houseOf_14 (iX7_houseOf_15 (jX7_houseOf_16 hS (iX7_houseOf_19 (jX7_houseOf_21 hS ⟨by omega, by omega⟩ ?_))))
        rw [ek, e1]
        refine iX7_houseOf_22 (iX7_houseOf_23 (by omega) (by omega) (fun g1 => ?_) (fun g1 => ?_))
        · refine iX7_houseOf_33 ?_
          refine iX7_houseOf_34 ?_
          rw [bits_off (by omega) (by simpa using g1)]
          refine iX7_houseOf_35 (iX7_houseOf_36 (iX7_houseOf_39 ?_))
          exact ih (k + 1) _ _ (by omega) (by omega) rfl
        · refine iX7_houseOf_26 (iX7_houseOf_27 (iX7_houseOf_29 (iX7_houseOf_30 (iX7_houseOf_34 ?_))))
          rw [bits_on (by omega) (by simpa using g1)]
          refine iX7_houseOf_35 (iX7_houseOf_36 (iX7_houseOf_39 ?_))
          exact ih (k + 1) _ _ (by omega) (by omega) rfl
  exact loop (nP V0) 0 0 0 (by omega) rfl rfl
theorem sp_personOf {d : Nat} {M : MH} {V0 V : MVal} (hS : MS (msh M) (mrv M)) (hR : RSt V0 V) {p : Nat} (hp : p < nP V0) {w : Int} (hw : 0 ≤ w ∧ w ≤ 2) : MVi mX7_personOf d [vp 94, vi p, vi w] M V (fun z V' => z = psQ V0 p w ∧ V = V') := by
  refine mc_of (L := [vp 94, vi p, vi w, vu, vu]) (by decide +kernel) (Nat.le_of_ble_eq_true rfl) rfl ?_
  obtain ⟨hP, r2, r5, rh, rp⟩ := hR
  have n8 := nH_le V0
  have p8 := nP_le V0
  refine iX7_personOf_0 (iX7_personOf_1 (iX7_personOf_2 (iX7_personOf_3 ?_)))
  have loop : ∀ f k : Nat, ∀ x y : Int, k + f = nH V0 → y = k → x = bitsN (fun h => ow V0 h == (p : Int)) k → MW mX7_personOf d 5 [vp 94, vi p, vi w, vi x, vi y] [] (sI M V) (Vi M (fun z V' => z = psQ V0 p w ∧ V = V')) := by
    intro f
    induction f with
    | zero =>
      intro k x y h1 h2 h3
      obtain rfl : k = nH V0 := by omega
      have eh : ((p : Int)).toNat = p := by omega
      refine iX7_personOf_5 (iX7_personOf_7 (jX7_personOf_8 hS (iX7_personOf_11 (by omega) (by omega) (fun g => ?_) (fun g => ?_))))
      · refine iX7_personOf_42 (iX7_personOf_43 (by omega) (fun g1 => ?_) (fun g1 => ?_))
        · refine iX7_personOf_55 (iX7_personOf_56 (iX7_personOf_57 (by omega) (by omega) (fun g2 => ?_) (fun g2 => ?_)))
          · refine iX7_personOf_69 (iX7_personOf_70 ?_)
            exact ⟨V, rfl, by unfold psQ; rw [if_neg g1, if_neg g2]; exact h3, rfl⟩
          · refine iX7_personOf_60 (jX7_personOf_61 hS (iX7_personOf_64 (jX7_personOf_65 hS ⟨by omega, by omega⟩ (iX7_personOf_66 (iX7_personOf_70 ?_)))))
            exact ⟨V, rfl, by unfold psQ; rw [if_neg g1, if_pos g2, eh]; exact (rp p hp).2, rfl⟩
        · refine iX7_personOf_46 (jX7_personOf_47 hS (iX7_personOf_50 (jX7_personOf_51 hS ⟨by omega, by omega⟩ (iX7_personOf_52 (iX7_personOf_70 ?_)))))
          exact ⟨V, rfl, by unfold psQ; rw [if_pos g1, eh]; exact (rp p hp).1, rfl⟩
      · omega
    | succ f ih =>
      intro k x y h1 h2 h3
      subst h2 h3
      have ek : ((k : Int)).toNat = k := by omega
      have hb := bitsN_lt31 (fun h => ow V0 h == (p : Int)) (n := k) (by omega)
      have rr := (ow_rng (V := V0) (k := k) (by omega)).1
      have e1 := (rh k (by omega)).1
      refine iX7_personOf_5 (iX7_personOf_7 (jX7_personOf_8 hS (iX7_personOf_11 (by omega) (by omega) (fun g => ?_) (fun g => ?_))))
      · omega
      · refine iX7_personOf_14 (iX7_personOf_15 (jX7_personOf_16 hS (iX7_personOf_19 (jX7_personOf_21 hS ⟨by omega, by omega⟩ ?_))))
        rw [ek, e1]
        refine iX7_personOf_22 (iX7_personOf_23 (by omega) (by omega) (fun g1 => ?_) (fun g1 => ?_))
        · refine iX7_personOf_33 (iX7_personOf_34 ?_)
          rw [bits_off (by omega) (by simpa using g1)]
          refine iX7_personOf_35 (iX7_personOf_36 (iX7_personOf_39 ?_))
          exact ih (k + 1) _ _ (by omega) (by omega) rfl
        · refine iX7_personOf_26 (iX7_personOf_27 (iX7_personOf_29 (iX7_personOf_30 (iX7_personOf_34 ?_))))
          rw [bits_on (by omega) (by simpa using g1)]
          refine iX7_personOf_35 (iX7_personOf_36 (iX7_personOf_39 ?_))
          exact ih (k + 1) _ _ (by omega) (by omega) rfl
  exact loop (nH V0) 0 0 0 (by omega) rfl rfl
def hsZ (V : MVal) (h w : Int) : Int := if (0 ≤ h ∧ h < nH V) ∧ 0 ≤ w ∧ w ≤ 2 then hsQ V h.toNat w else -2
def psZ (V : MVal) (p w : Int) : Int := if (0 ≤ p ∧ p < nP V) ∧ 0 ≤ w ∧ w ≤ 2 then psQ V p.toNat w else -2
theorem sp_house {d : Nat} {M : MH} {V0 V : MVal} (hS : MS (msh M) (mrv M)) (hT : MT V0) (hP : PEq V0 V) {h w : Int} (hh : inR h) (hw : inR w) : MVi mX7_house (d + 4) [vp 94, vi h, vi w] M V (fun z V' => z = hsZ V0 h w ∧ PEq V0 V') := by
  refine mc_of (L := [vp 94, vi h, vi w]) (by decide +kernel) (Nat.le_of_ble_eq_true rfl) rfl ?_
  refine iX7_house_0 (iX7_house_1 ?_)
  refine jX7_house_2 hS (sp_isHouse hS hT hP hh) ?_
  rintro z V1 ⟨rfl, hR⟩
  refine iX7_house_5 bzR (fun h0 => have g1 := bz_eq h0; ?_) (fun h0 => have g1 := bz_ne h0; ?_)
  · refine iX7_house_26 (iX7_house_28 ?_)
    exact ⟨V1, rfl, by unfold hsZ; rw [if_neg (by omega)], hR.1⟩
  · refine iX7_house_8 (iX7_house_9 (iX7_house_10 (jX7_house_11 (sp_X7_in (by omega) (by omega) (by omega)) (iX7_house_14 bzR (fun h0 => have g2 := bz_eq h0; ?_) (fun h0 => have g2 := bz_ne h0; ?_)))))
    · refine iX7_house_26 (iX7_house_28 ?_)
      exact ⟨V1, rfl, by unfold hsZ; rw [if_neg (by omega)], hR.1⟩
    · obtain ⟨n, rfl⟩ : ∃ n : Nat, h = n := ⟨h.toNat, by omega⟩
      refine iX7_house_17 (iX7_house_18 (iX7_house_19 ?_))
      refine jX7_house_20 hS (sp_houseOf hS hR (h := n) (by omega) g2) ?_
      rintro z V2 ⟨rfl, rfl⟩
      refine iX7_house_23 (iX7_house_28 ?_)
      exact ⟨V1, rfl, by unfold hsZ; rw [if_pos ⟨g1, g2⟩]; rfl, hR.1⟩
theorem sp_person {d : Nat} {M : MH} {V0 V : MVal} (hS : MS (msh M) (mrv M)) (hT : MT V0) (hP : PEq V0 V) {h w : Int} (hh : inR h) (hw : inR w) : MVi mX7_person (d + 4) [vp 94, vi h, vi w] M V (fun z V' => z = psZ V0 h w ∧ PEq V0 V') := by
  refine mc_of (L := [vp 94, vi h, vi w]) (by decide +kernel) (Nat.le_of_ble_eq_true rfl) rfl ?_
  refine iX7_person_0 (iX7_person_1 ?_)
  refine jX7_person_2 hS (sp_isPerson hS hT hP hh) ?_
  rintro z V1 ⟨rfl, hR⟩
  refine iX7_person_5 bzR (fun h0 => have g1 := bz_eq h0; ?_) (fun h0 => have g1 := bz_ne h0; ?_)
  · refine iX7_person_26 (iX7_person_28 ?_)
    exact ⟨V1, rfl, by unfold psZ; rw [if_neg (by omega)], hR.1⟩
  · refine iX7_person_8 (iX7_person_9 (iX7_person_10 (jX7_person_11 (sp_X7_in (by omega) (by omega) (by omega)) (iX7_person_14 bzR (fun h0 => have g2 := bz_eq h0; ?_) (fun h0 => have g2 := bz_ne h0; ?_)))))
    · refine iX7_person_26 (iX7_person_28 ?_)
      exact ⟨V1, rfl, by unfold psZ; rw [if_neg (by omega)], hR.1⟩
    · obtain ⟨n, rfl⟩ : ∃ n : Nat, h = n := ⟨h.toNat, by omega⟩
      refine iX7_person_17 (iX7_person_18 (iX7_person_19 ?_))
      refine jX7_person_20 hS (sp_personOf hS hR (p := n) (by omega) g2) ?_
      rintro z V2 ⟨rfl, rfl⟩
      refine iX7_person_23 (iX7_person_28 ?_)
      exact ⟨V1, rfl, by unfold psZ; rw [if_pos ⟨g1, g2⟩]; rfl, hR.1⟩
