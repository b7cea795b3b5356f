/-! the model: what holds between calls; runs of sales -/
def MIt (V : MVal) : Prop := MT V
def MIl (V : MVal) : Prop := ∀ k, k < 3 → V 101 k = 0 ∨ V 101 k = 1
def MIs (V : MVal) : Prop := 0 ≤ V 94 9 ∧ V 94 9 ≤ 12
def MIse (V : MVal) : Prop := ∀ k, k < 12 → (0 ≤ V 102 k ∧ V 102 k ≤ 7) ∧ 0 ≤ V 103 k ∧ V 103 k ≤ 7
def MIw (V : MVal) : Prop := ∀ k, k < 64 → (-9 ≤ V 109 k ∧ V 109 k ≤ 9) ∧ -9 ≤ V 110 k ∧ V 110 k ≤ 9
def MIz (V : MVal) : Prop := ∀ k, k < 8 → V 109 (9 * k) = 0 ∧ V 110 (9 * k) = 0
def MIf (V : MVal) : Prop := 0 ≤ V 94 23 ∧ V 94 23 ≤ 8
def MIfe (V : MVal) : Prop := ∀ k, k < 8 → (0 ≤ V 114 k ∧ V 114 k ≤ 7) ∧ 0 ≤ V 115 k ∧ V 115 k ≤ 7
def MIh (V : MVal) : Prop := ∀ k, k < 4 → (V 117 k = 0 ∨ V 117 k = 1) ∧ (0 ≤ V 118 k ∧ V 118 k ≤ 2) ∧ 0 ≤ V 119 k ∧ V 119 k ≤ 48
def MIi (V : MVal) : Prop := ∀ k j, k < 4 → j < 48 → inR (V 120 (48 * k + j)) ∧ (V 118 k = 0 → -128 ≤ V 120 (48 * k + j) ∧ V 120 (48 * k + j) ≤ 127) ∧ (V 118 k = 1 → -32768 ≤ V 120 (48 * k + j) ∧ V 120 (48 * k + j) ≤ 32767)
def MIg (V : MVal) : Prop := 0 ≤ V 94 32 ∧ V 94 32 ≤ 9
def MI (V : MVal) : Prop := MIt V ∧ MIl V ∧ MIs V ∧ MIse V ∧ MIw V ∧ MIz V ∧ MIf V ∧ MIfe V ∧ MIh V ∧ MIi V ∧ MIg V
theorem MI.t {V : MVal} (h : MI V) : MT V := h.1
theorem MI.l {V : MVal} (h : MI V) : ∀ k, k < 3 → V 101 k = 0 ∨ V 101 k = 1 := h.2.1
theorem MI.s {V : MVal} (h : MI V) : 0 ≤ V 94 9 ∧ V 94 9 ≤ 12 := h.2.2.1
theorem MI.se {V : MVal} (h : MI V) : ∀ k, k < 12 → (0 ≤ V 102 k ∧ V 102 k ≤ 7) ∧ 0 ≤ V 103 k ∧ V 103 k ≤ 7 := h.2.2.2.1
theorem MI.w {V : MVal} (h : MI V) : ∀ k, k < 64 → (-9 ≤ V 109 k ∧ V 109 k ≤ 9) ∧ -9 ≤ V 110 k ∧ V 110 k ≤ 9 := h.2.2.2.2.1
theorem MI.z {V : MVal} (h : MI V) : ∀ k, k < 8 → V 109 (9 * k) = 0 ∧ V 110 (9 * k) = 0 := h.2.2.2.2.2.1
theorem MI.f {V : MVal} (h : MI V) : 0 ≤ V 94 23 ∧ V 94 23 ≤ 8 := h.2.2.2.2.2.2.1
theorem MI.fe {V : MVal} (h : MI V) : ∀ k, k < 8 → (0 ≤ V 114 k ∧ V 114 k ≤ 7) ∧ 0 ≤ V 115 k ∧ V 115 k ≤ 7 := h.2.2.2.2.2.2.2.1
theorem MI.h {V : MVal} (h : MI V) : ∀ k, k < 4 → (V 117 k = 0 ∨ V 117 k = 1) ∧ (0 ≤ V 118 k ∧ V 118 k ≤ 2) ∧ 0 ≤ V 119 k ∧ V 119 k ≤ 48 := h.2.2.2.2.2.2.2.2.1
theorem MI.i {V : MVal} (h : MI V) : ∀ k j, k < 4 → j < 48 → inR (V 120 (48 * k + j)) ∧ (V 118 k = 0 → -128 ≤ V 120 (48 * k + j) ∧ V 120 (48 * k + j) ≤ 127) ∧ (V 118 k = 1 → -32768 ≤ V 120 (48 * k + j) ∧ V 120 (48 * k + j) ≤ 32767) := h.2.2.2.2.2.2.2.2.2.1
theorem MI.g {V : MVal} (h : MI V) : 0 ≤ V 94 32 ∧ V 94 32 ≤ 9 := h.2.2.2.2.2.2.2.2.2.2
theorem MI.eq {A B : MVal} (h : MI A) (e : PEq A B) : MI B := by
  obtain ⟨e1, e2, e3, e4⟩ := e
  refine ⟨PEq.MT ⟨e1, e2, e3, e4⟩ h.t, ?_, ?_, ?_, ?_, ?_, ?_, ?_, ?_, ?_, ?_⟩
  · unfold MIl; rw [e1 101 rfl]; exact h.l
  · unfold MIs; rw [e2]; exact h.s
  · unfold MIse; rw [e1 102 rfl, e1 103 rfl]; exact h.se
  · unfold MIw; rw [e1 109 rfl, e1 110 rfl]; exact h.w
  · unfold MIz; rw [e1 109 rfl, e1 110 rfl]; exact h.z
  · unfold MIf; rw [e3]; exact h.f
  · unfold MIfe; rw [e1 114 rfl, e1 115 rfl]; exact h.fe
  · unfold MIh; rw [e1 117 rfl, e1 118 rfl, e1 119 rfl]; exact h.h
  · unfold MIi; rw [e1 120 rfl, e1 118 rfl]; exact h.i
  · unfold MIg; rw [e4]; exact h.g
def eN (V : MVal) (wh : Nat → Int) : NE := (nH V, nP V, V 101, wh)
def n0 (V : MVal) : NN := (ow V, fun p => (p : Int), fun _ => 0)
noncomputable def run (V : MVal) (wh : Nat → Int) : Nat → NN
  | 0 => n0 V
  | k + 1 => sl (eN V wh) (run V wh k) (V 102 k) (V 103 k)
noncomputable def len (V : MVal) (wh : Nat → Int) (k : Nat) : Int := slL (eN V wh) (run V wh k) (V 102 k) (V 103 k)
/-- people stand somewhere -/
def WR (V : MVal) (wh : Nat → Int) : Prop := ∀ p, p < nP V → -1 ≤ wh p ∧ wh p ≤ 8
theorem NR.m {E : NE} {m m' : Int} {N : NN} (h : NR E m N) (hm : m ≤ m') : NR E m' N :=
  ⟨h.1, h.2.1, h.2.2.1, h.2.2.2.1, h.2.2.2.2.1, fun p hp => ⟨(h.2.2.2.2.2 p hp).1, (h.2.2.2.2.2 p hp).2.1, Int.le_trans (h.2.2.2.2.2 p hp).2.2 hm⟩⟩
theorem NR.sl {E : NE} {m : Int} {N : NN} (h : NR E m N) {x b : Int} (hx : 0 ≤ x) (hb : 0 ≤ b) : NR E (m + 1) (sl E N x b) := by
  obtain ⟨R1, R2, R3, R4, R5, R6⟩ := h
  unfold Jvm.Pilot.@@N@@.sl
  by_cases g : x < E.1 ∧ b < E.2.1
  · rw [if_pos g]
    refine ⟨R1, R2, R3, R4, fun i hi => ?_, fun p hp => ?_⟩
    · have := R5 i hi
      show 0 ≤ cif _ b (N.1 i) ∧ cif _ b (N.1 i) ≤ 7
      by_cases c : clo E N x.toNat b.toNat i
      · rw [cif_t c]; omega
      · rw [cif_f c]; omega
    · have := R6 p hp
      show (0 ≤ cif _ b (N.2.1 p) ∧ cif _ b (N.2.1 p) < E.2.1) ∧ 0 ≤ N.2.2 p + cif _ 1 0 ∧ N.2.2 p + cif _ 1 0 ≤ m + 1
      by_cases c : tak E N x.toNat b.toNat p
      · rw [cif_t c, cif_t c]; omega
      · rw [cif_f c, cif_f c]; omega
  · rw [if_neg g]
    exact NR.m ⟨R1, R2, R3, R4, R5, R6⟩ (by omega)
theorem run_NR {V : MVal} {wh : Nat → Int} (hI : MI V) (hw : WR V wh) : ∀ k : Nat, k ≤ 12 → NR (eN V wh) (k : Int) (run V wh k)
  | 0, _ => ⟨nH_le V, nP_le V, hI.l, hw, fun i hi => (ow_rng hi).1, fun p hp => ⟨⟨(by show (0 : Int) ≤ (p : Int); omega), (by show (p : Int) < (nP V : Int); have : p < nP V := hp; omega)⟩, Int.le_refl _, Int.le_refl _⟩⟩
  | k + 1, h => by
    have hs := hI.se k (by omega)
    exact NR.sl (run_NR hI hw k (by omega)) hs.1.1 hs.2.1
/-- nothing but the stroke's rows has moved -/
def FrR (V V' : MVal) : Prop := (∀ q, q ≠ 94 → q ≠ 105 → q ≠ 106 → q ≠ 107 → q ≠ 108 → V' q = V q) ∧ ∀ i, i ≠ 17 → V' 94 i = V 94 i
theorem FrR.rf (V : MVal) : FrR V V := ⟨fun _ _ _ _ _ _ => rfl, fun _ _ => rfl⟩
theorem FrR.tr {A B C : MVal} (h : FrR A B) (g : FrR B C) : FrR A C := ⟨fun q h0 h1 h2 h3 h4 => (g.1 q h0 h1 h2 h3 h4).trans (h.1 q h0 h1 h2 h3 h4), fun i hi => (g.2 i hi).trans (h.2 i hi)⟩
theorem FrN.r {A B : MVal} (h : FrN A B) : FrR A B := ⟨fun q _ h1 h2 h3 h4 => h q h1 h2 h3 h4, fun i _ => by rw [h 94 (by decide) (by decide) (by decide) (by decide)]⟩
theorem FrR.wr {A B : MVal} (h : FrR A B) {p i : Nat} {x : Int} (hp : p = 105 ∨ p = 106 ∨ p = 107 ∨ p = 108) : FrR A (u2 B p i x) := ⟨fun q h0 h1 h2 h3 h4 => by
  rw [u2_ne (by omega)]; exact h.1 q h0 h1 h2 h3 h4, fun j hj => by rw [u2_ne (by omega)]; exact h.2 j hj⟩
theorem FrR.ln {A B : MVal} (h : FrR A B) {x : Int} : FrR A (u2 B 94 17 x) := ⟨fun q h0 h1 h2 h3 h4 => by
  rw [u2_ne h0]; exact h.1 q h0 h1 h2 h3 h4, fun j hj => by rw [u2_off hj]; exact h.2 j hj⟩
theorem RSt.fr {V0 V V' : MVal} (h : RSt V0 V) (g : FrR V V') : RSt V0 V' := by
  obtain ⟨⟨a1, a2, a3, a4⟩, b, c, e, f⟩ := h
  refine ⟨⟨fun q hq => ?_, ?_, ?_, ?_⟩, ?_, ?_, ?_, ?_⟩
  · rw [g.1 q (fun e => by rw [e] at hq; cases hq) (fun e => by rw [e] at hq; cases hq) (fun e => by rw [e] at hq; cases hq) (fun e => by rw [e] at hq; cases hq) (fun e => by rw [e] at hq; cases hq)]
    exact a1 q hq
  · rw [g.2 9 (by decide)]; exact a2
  · rw [g.2 23 (by decide)]; exact a3
  · rw [g.2 32 (by decide)]; exact a4
  · rw [g.2 2 (by decide)]; exact b
  · rw [g.2 5 (by decide)]; exact c
  · rw [g.1 97 (by decide) (by decide) (by decide) (by decide) (by decide), g.1 98 (by decide) (by decide) (by decide) (by decide) (by decide)]; exact e
  · rw [g.1 99 (by decide) (by decide) (by decide) (by decide) (by decide), g.1 100 (by decide) (by decide) (by decide) (by decide) (by decide)]; exact f
set_option maxHeartbeats 4000000 in
theorem sp_begins {d : Nat} {M : MH} {V0 V : MVal} (hS : MS (msh M) (mrv M)) (hR : RSt V0 V) : MVv mX7_begins d [vp 94] M V (fun V' => FrN V V' ∧ (∀ i, i < nH V0 → V' 105 i = ow V0 i) ∧ ∀ p, p < 9 → V' 106 p = p ∧ V' 107 p = 0) := by
  refine mc_of (L := [vp 94, vu]) (by decide +kernel) (Nat.le_of_ble_eq_true rfl) rfl ?_
  have l2 : ∀ f k : Nat, ∀ (W : MVal), k + f = nH V0 → FrN V W → (∀ i, i < k → W 105 i = ow V0 i) → (∀ p, p < 9 → W 106 p = p ∧ W 107 p = 0) → MW mX7_begins d 30 [vp 94, vi k] [] (sI M W) (Vv M (fun V' => FrN V V' ∧ (∀ i, i < nH V0 → V' 105 i = ow V0 i) ∧ ∀ p, p < 9 → V' 106 p = p ∧ V' 107 p = 0)) := by
    intro f
    induction f with
    | zero =>
      intro k W h1 h2 h3 h4
      obtain ⟨-, n2, -, -, -⟩ := hR.fr h2.r
      have := nH_le V0
      refine iX7_begins_30 (iX7_begins_31 (jX7_begins_32 hS (iX7_begins_35 (by omega) (by omega) (fun g => ?_) (fun g => ?_))))
      · refine iX7_begins_56 ?_
        exact ⟨W, rfl, h2, fun i hi => h3 i (by omega), h4⟩
      · omega
    | succ f ih =>
      intro k W h1 h2 h3 h4
      obtain ⟨-, n2, -, n4, -⟩ := hR.fr h2.r
      have := nH_le V0
      have ek : ((k : Int)).toNat = k := by omega
      refine iX7_begins_30 (iX7_begins_31 (jX7_begins_32 hS (iX7_begins_35 (by omega) (by omega) (fun g => ?_) (fun g => ?_))))
      · omega
      · refine iX7_begins_38 (jX7_begins_39 hS (iX7_begins_42 (iX7_begins_43 (jX7_begins_44 hS (iX7_begins_47 (jX7_begins_48 hS ⟨by omega, by omega⟩ ?_))))))
        rw [ek, (n4 k (by omega)).1]
        refine jX7_begins_49 hS ⟨by omega, by omega⟩ (iX7_begins_50 (iX7_begins_53 ?_))
        rw [ek]
        refine ih (k + 1) _ (by omega) (h2.wr (by omega)) (fun i hi => ?_) (fun p hp => ?_)
        · by_cases e : i = k
          · subst e; rw [u2_at]
          · rw [u2_off e]; exact h3 i (by omega)
        · rw [u2_ne (by decide), u2_ne (by decide)]; exact h4 p hp
  have l1 : ∀ f k : Nat, ∀ (W : MVal), k + f = 9 → FrN V W → (∀ p, p < k → W 106 p = p ∧ W 107 p = 0) → MW mX7_begins d 2 [vp 94, vi k] [] (sI M W) (Vv M (fun V' => FrN V V' ∧ (∀ i, i < nH V0 → V' 105 i = ow V0 i) ∧ ∀ p, p < 9 → V' 106 p = p ∧ V' 107 p = 0)) := by
    intro f
    induction f with
    | zero =>
      intro k W h1 h2 h3
      refine iX7_begins_2 (iX7_begins_3 (iX7_begins_5 (by omega) (by omega) (fun g => ?_) (fun g => ?_)))
      · refine iX7_begins_28 (iX7_begins_29 ?_)
        exact l2 (nH V0) 0 W (by omega) h2 (fun i hi => absurd hi (by omega)) (fun p hp => h3 p (by omega))
      · omega
    | succ f ih =>
      intro k W h1 h2 h3
      have ek : ((k : Int)).toNat = k := by omega
      refine iX7_begins_2 (iX7_begins_3 (iX7_begins_5 (by omega) (by omega) (fun g => ?_) (fun g => ?_)))
      · omega
      · refine iX7_begins_8 (jX7_begins_9 hS (iX7_begins_12 (iX7_begins_13 (jX7_begins_14 hS ⟨by omega, by omega⟩ (iX7_begins_15 (jX7_begins_16 hS (iX7_begins_19 (iX7_begins_20 (jX7_begins_21 hS ⟨by omega, by omega⟩ (iX7_begins_22 (iX7_begins_25 ?_)))))))))))
        rw [ek]
        refine ih (k + 1) _ (by omega) ((h2.wr (by omega)).wr (by omega)) (fun p hp => ?_)
        rw [u2_ne (show 106 ≠ 107 by decide)]
        by_cases e : p = k
        · subst e; rw [u2_at, u2_at]; exact ⟨rfl, rfl⟩
        · rw [u2_off e, u2_off e, u2_ne (by decide)]; exact h3 p (by omega)
  refine iX7_begins_0 (iX7_begins_1 ?_)
  exact l1 9 0 V rfl (FrN.rf V) (fun p hp => absurd hp (by omega))
/-- the rows after so many sales -/
def RN (V0 : MVal) (wh : Nat → Int) (k : Nat) (V : MVal) : Prop := RSt V0 V ∧ NSt (eN V0 wh) (run V0 wh k) V ∧ (0 < k → V 94 17 = len V0 wh (k - 1))
theorem RSt.noon {V0 V : MVal} {wh : Nat → Int} {N : NN} (hR : RSt V0 V) (hw : ∀ p, p < nP V0 → V 104 p = wh p) (h1 : ∀ i, i < nH V0 → V 105 i = N.1 i) (h2 : ∀ p, p < nP V0 → V 106 p = N.2.1 p ∧ V 107 p = N.2.2 p) : NSt (eN V0 wh) N V :=
  ⟨hR.2.1, hR.2.2.1, fun k _ => by rw [hR.1.1 101 rfl]; rfl, hw, h1, h2⟩
set_option maxHeartbeats 4000000 in
theorem sp_runs {d : Nat} {M : MH} {V0 V : MVal} {wh : Nat → Int} (hS : MS (msh M) (mrv M)) (hI : MI V0) (hR : RSt V0 V) (hw : WR V0 wh) (hV : ∀ p, p < nP V0 → V 104 p = wh p) {m : Int} (hm : 0 ≤ m ∧ m ≤ 12) : MVv mX7_runs (d + 2) [vp 94, vi m] M V (fun V' => FrR V V' ∧ RN V0 wh m.toNat V') := by
  obtain ⟨m, rfl⟩ := Int.eq_ofNat_of_zero_le hm.1
  rw [Int.toNat_natCast]
  refine mc_of (L := [vp 94, vi m, vu]) (by decide +kernel) (Nat.le_of_ble_eq_true rfl) rfl ?_
  refine iX7_runs_0 ?_
  refine jX7_runs_1 hS (sp_begins hS hR) ?_
  rintro V1 ⟨a1, a2, a3⟩
  refine iX7_runs_4 (iX7_runs_5 ?_)
  have loop : ∀ f k : Nat, ∀ (W : MVal), k + f = m → FrR V W → RN V0 wh k W → MW mX7_runs (d + 2) 6 [vp 94, vi m, vi k] [] (sI M W) (Vv M (fun V' => FrR V V' ∧ RN V0 wh m V')) := by
    intro f
    induction f with
    | zero =>
      intro k W h1 h2 h3
      have : k = m := by omega
      subst this
      refine iX7_runs_6 (iX7_runs_7 (iX7_runs_8 (by omega) (by omega) (fun g => ?_) (fun g => ?_)))
      · refine iX7_runs_37 ?_
        exact ⟨W, rfl, h2, h3⟩
      · omega
    | succ f ih =>
      intro k W h1 h2 h3
      have ek : ((k : Int)).toNat = k := by omega
      have hs := hI.se k (by omega)
      refine iX7_runs_6 (iX7_runs_7 (iX7_runs_8 (by omega) (by omega) (fun g => ?_) (fun g => ?_)))
      · omega
      · refine iX7_runs_11 (iX7_runs_12 (iX7_runs_13 (jX7_runs_14 hS (iX7_runs_17 (jX7_runs_18 hS ⟨by omega, by omega⟩ ?_)))))
        refine iX7_runs_19 (jX7_runs_20 hS (iX7_runs_23 (jX7_runs_24 hS ⟨by omega, by omega⟩ ?_)))
        rw [ek, h3.1.1.1 102 rfl, h3.1.1.1 103 rfl]
        refine jX7_runs_25 hS (sp_sells hS h3.2.1 (run_NR hI hw k (by omega)) (by omega) (by omega) (by omega)) ?_
        rintro z W2 ⟨rfl, b2, b3⟩
        refine jX7_runs_28 hS (iX7_runs_31 (iX7_runs_34 ?_))
        refine ih (k + 1) _ (by omega) ((h2.tr b3.r).ln) ⟨h3.1.fr b3.r.ln, ?_, fun _ => u2_at⟩
        obtain ⟨c1, c2, c3, c4, c5, c6⟩ := b2
        refine ⟨by rw [u2_off (by decide)]; exact c1, by rw [u2_off (by decide)]; exact c2, ?_, ?_, ?_, ?_⟩
        · rw [u2_ne (by decide)]; exact c3
        · rw [u2_ne (by decide)]; exact c4
        · rw [u2_ne (by decide)]; exact c5
        · rw [u2_ne (by decide), u2_ne (by decide)]; exact c6
  refine loop m 0 V1 (by omega) a1.r ⟨hR.fr a1.r, (hR.fr a1.r).noon (fun p hp => ?_) a2 (fun p hp => ?_), fun h => absurd h (by omega)⟩
  · rw [a1 104 (by decide) (by decide) (by decide) (by decide)]; exact hV p hp
  · have := nP_le V0
    exact a3 p (by omega)
theorem WR.pl (V : MVal) : WR V (pl V) := fun p hp => by
  have := pl_rng hp
  have := nH_le V
  omega
theorem RSt.w104 {V0 V : MVal} (h : RSt V0 V) {i : Nat} {x : Int} : RSt V0 (u2 V 104 i x) := by
  refine ⟨h.1.scr rfl (by decide), ?_, ?_, ?_, ?_⟩
  · rw [u2_ne (by decide)]; exact h.2.1
  · rw [u2_ne (by decide)]; exact h.2.2.1
  · rw [u2_ne (by decide), u2_ne (by decide)]; exact h.2.2.2.1
  · rw [u2_ne (by decide), u2_ne (by decide)]; exact h.2.2.2.2
set_option maxHeartbeats 4000000 in
theorem sp_lays {d : Nat} {M : MH} {V0 V : MVal} (hS : MS (msh M) (mrv M)) (hI : MI V0) (hP : PEq V0 V) {m : Int} (hm : 0 ≤ m ∧ m ≤ 12) : MVv mX7_lays (d + 3) [vp 94, vi m] M V (RN V0 (pl V0) m.toNat) := by
  refine mc_of (L := [vp 94, vi m, vu]) (by decide +kernel) (Nat.le_of_ble_eq_true rfl) rfl ?_
  refine iX7_lays_0 ?_
  refine jX7_lays_1 hS (sp_reads hS hI.t hP) ?_
  intro V1 hR
  refine iX7_lays_4 (iX7_lays_5 ?_)
  have hp8 := nP_le V0
  have loop : ∀ f k : Nat, ∀ (W : MVal), k + f = nP V0 → RSt V0 W → (∀ p, p < k → W 104 p = pl V0 p) → MW mX7_lays (d + 3) 6 [vp 94, vi m, vi k] [] (sI M W) (Vv M (RN V0 (pl V0) m.toNat)) := by
    intro f
    induction f with
    | zero =>
      intro k W h1 h2 h3
      have := h2.2.2.1
      refine iX7_lays_6 (iX7_lays_7 (jX7_lays_8 hS (iX7_lays_11 (by omega) (by omega) (fun g => ?_) (fun g => ?_))))
      · refine iX7_lays_32 (iX7_lays_33 ?_)
        refine jX7_lays_34 hS (sp_runs hS hI h2 (WR.pl V0) (fun p hp => h3 p (by omega)) hm) ?_
        rintro V2 ⟨-, h⟩
        refine iX7_lays_37 ?_
        exact ⟨V2, rfl, h⟩
      · omega
    | succ f ih =>
      intro k W h1 h2 h3
      have := h2.2.2.1
      have ek : ((k : Int)).toNat = k := by omega
      refine iX7_lays_6 (iX7_lays_7 (jX7_lays_8 hS (iX7_lays_11 (by omega) (by omega) (fun g => ?_) (fun g => ?_))))
      · omega
      · refine iX7_lays_14 (jX7_lays_15 hS (iX7_lays_18 (iX7_lays_19 (jX7_lays_20 hS (iX7_lays_23 (jX7_lays_24 hS ⟨by omega, by omega⟩ ?_))))))
        rw [ek, (h2.2.2.2.2 k (by omega)).2]
        refine jX7_lays_25 hS ⟨by omega, by omega⟩ (iX7_lays_26 (iX7_lays_29 ?_))
        rw [ek]
        refine ih (k + 1) _ (by omega) h2.w104 (fun p hp => ?_)
        by_cases e : p = k
        · subst e; rw [u2_at]
        · rw [u2_off e]; exact h3 p (by omega)
  exact loop (nP V0) 0 V1 (by omega) hR (fun p hp => absurd hp (by omega))
