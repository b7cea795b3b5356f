/-! the model: its texts -/
abbrev MVal : Type := Nat → Nat → Int
def tn (V : MVal) (t : Nat) : Nat := (V 95 t).toNat
/-- the byte at a place of a text; -1 behind its end -/
def bt (V : MVal) (t i : Nat) : Int := if i < tn V t then V 96 (30 * t + i) else -1
/-- texts as they may be -/
def MT (V : MVal) : Prop := (0 ≤ V 95 0 ∧ V 95 0 ≤ 30) ∧ (0 ≤ V 95 1 ∧ V 95 1 ≤ 24) ∧ ∀ k, k < 60 → 0 ≤ V 96 k ∧ V 96 k ≤ 255
theorem bt_congr {V W : MVal} (h1 : W 95 = V 95) (h2 : W 96 = V 96) : bt W = bt V := by
  funext t i
  unfold bt tn
  rw [h1, h2]
theorem tn_congr {V W : MVal} (h1 : W 95 = V 95) : tn W = tn V := by
  funext t
  unfold tn
  rw [h1]
theorem bt_rng {V : MVal} (h : MT V) {t : Nat} (ht : t < 2) (i : Nat) : -1 ≤ bt V t i ∧ bt V t i ≤ 255 := by
  unfold bt
  split
  · rename_i hi
    have : 30 * t + i < 60 := by
      unfold tn at hi
      have h1 := h.1
      have h2 := h.2.1
      obtain rfl | rfl : t = 0 ∨ t = 1 := by omega
      · omega
      · omega
    have := h.2.2 _ this
    omega
  · omega
theorem sp_byteAt {d : Nat} {M : MH} {V : MVal} (hS : MS (msh M) (mrv M)) (hT : MT V) {t k : Nat} (ht : t < 2) (hk : k < 1000) : MVi mX7_byteAt d [vp 94, vi t, vi k] M V (fun z V' => z = bt V t k ∧ V = V') := by
  refine mc_of (L := [vp 94, vi t, vi k]) (by decide +kernel) (Nat.le_of_ble_eq_true rfl) rfl ?_
  have ht2 : 0 ≤ V 95 t ∧ V 95 t ≤ 30 := by
    have h1 := hT.1
    have h2 := hT.2.1
    obtain rfl | rfl : t = 0 ∨ t = 1 := by omega
    · exact hT.1
    · omega
  have e0 : ((t : Int)).toNat = t := by omega
  refine iX7_byteAt_0 (iX7_byteAt_1 (jX7_byteAt_2 hS (iX7_byteAt_5 (jX7_byteAt_6 hS ⟨by omega, by omega⟩ ?_))))
  rw [e0]
  refine iX7_byteAt_7 (by omega) (by omega) (fun h => ?_) (fun h => ?_)
  · refine iX7_byteAt_24 (iX7_byteAt_25 ?_)
    refine ⟨V, rfl, ?_, rfl⟩
    unfold bt tn
    rw [if_neg (by omega)]
  · have : 30 * t + k < 60 := by
      have h1 := hT.1
      have h2 := hT.2.1
      obtain rfl | rfl : t = 0 ∨ t = 1 := by omega
      · omega
      · omega
    refine iX7_byteAt_10 (jX7_byteAt_11 hS (iX7_byteAt_14 (iX7_byteAt_16 (iX7_byteAt_17 (iX7_byteAt_18 (iX7_byteAt_19 (jX7_byteAt_20 hS ⟨by omega, by omega⟩ (iX7_byteAt_21 (iX7_byteAt_25 ?_)))))))))
    refine ⟨V, rfl, ?_, rfl⟩
    unfold bt tn
    rw [if_pos (by omega), show ((30 : Int) * (t : Int) + (k : Int)).toNat = 30 * t + k by omega]
/-- the street's text, from house k on: the fault (-1: none), how many houses -/
def hF (b : Nat → Int) (n : Nat) : Nat → Nat → Int × Nat
  | 0, _ => (0, 0)
  | f + 1, k => if k = 8 ∨ ¬ (48 ≤ b (3 * k) ∧ b (3 * k) ≤ 55) then (3 * (k : Int), 0) else if ¬ (48 ≤ b (3 * k + 1) ∧ b (3 * k + 1) ≤ 57) then (3 * (k : Int) + 1, 0) else if 3 * k + 2 = n then (-1, k + 1) else if b (3 * k + 2) ≠ 59 then (3 * (k : Int) + 2, 0) else hF b n f (k + 1)
def hP (b : Nat → Int) (n : Nat) : Int × Nat := if n = 0 then (-1, 0) else hF b n 9 0
def nH (V : MVal) : Nat := (hP (bt V 0) (tn V 0)).2
def fH (V : MVal) : Int := (hP (bt V 0) (tn V 0)).1
def ow (V : MVal) (k : Nat) : Int := bt V 0 (3 * k) - 48
def pr (V : MVal) (k : Nat) : Int := bt V 0 (3 * k + 1) - 48
theorem hF_ok (b : Nat → Int) (n : Nat) : ∀ f k h, f + k = 9 → (hF b n f k).2 = h → 0 < h → h ≤ 8 ∧ ∀ j, k ≤ j → j < h → (48 ≤ b (3 * j) ∧ b (3 * j) ≤ 55) ∧ 48 ≤ b (3 * j + 1) ∧ b (3 * j + 1) ≤ 57
  | 0, k, h, _, he, hp => by simp [hF] at he; omega
  | f + 1, k, h, hf, he, hp => by
    unfold hF at he
    split at he
    · simp at he; omega
    · rename_i h1
      split at he
      · simp at he; omega
      · rename_i h2
        split at he
        · rename_i h3
          simp at he
          refine ⟨by omega, fun j h4 h5 => ?_⟩
          have : j = k := by omega
          subst this
          omega
        · split at he
          · simp at he; omega
          · obtain ⟨g1, g2⟩ := hF_ok b n f (k + 1) h (by omega) he hp
            refine ⟨g1, fun j h4 h5 => ?_⟩
            by_cases e : j = k
            · subst e; omega
            · exact g2 j (by omega) h5
theorem nH_le (V : MVal) : nH V ≤ 8 := by
  unfold nH hP
  split
  · decide
  · by_cases h : 0 < (hF (bt V 0) (tn V 0) 9 0).2
    · exact (hF_ok _ _ 9 0 _ rfl rfl h).1
    · omega
theorem ow_rng {V : MVal} {k : Nat} (h : k < nH V) : (0 ≤ ow V k ∧ ow V k ≤ 7) ∧ 0 ≤ pr V k ∧ pr V k ≤ 9 := by
  unfold nH hP at h
  split at h
  · simp at h
  · have := (hF_ok _ _ 9 0 _ rfl rfl (Nat.lt_of_le_of_lt (Nat.zero_le _) h)).2 k (Nat.zero_le _) h
    unfold ow pr
    omega
theorem hF_rng (b : Nat → Int) (n : Nat) : ∀ f k, f + k = 9 → -1 ≤ (hF b n f k).1 ∧ (hF b n f k).1 ≤ 30
  | 0, k, _ => by simp [hF]
  | f + 1, k, hf => by
    unfold hF
    split
    · dsimp only; omega
    · split
      · dsimp only; omega
      · split
        · dsimp only; omega
        · split
          · dsimp only; omega
          · exact hF_rng b n f (k + 1) (by omega)
theorem fH_rng (V : MVal) : -1 ≤ fH V ∧ fH V ≤ 30 := by
  unfold fH hP
  split
  · decide
  · exact hF_rng _ _ 9 0 rfl
/-- what readsHouses leaves -/
def PH (V0 : MVal) (z : Int) (V : MVal) : Prop := z = fH V0 ∧ V 94 2 = nH V0 ∧ (∀ j, j < nH V0 → V 97 j = ow V0 j ∧ V 98 j = pr V0 j) ∧ (∀ q, q ≠ 94 → q ≠ 97 → q ≠ 98 → V q = V0 q) ∧ ∀ j, j ≠ 2 → V 94 j = V0 94 j
theorem u2_at {α : Type} {f : Nat → Nat → α} {p i : Nat} {x : α} : u2 f p i x p i = x := by simp [u2]
theorem u2_off {α : Type} {f : Nat → Nat → α} {p i j : Nat} {x : α} (h : j ≠ i) : u2 f p i x p j = f p j := by simp [u2, h]
set_option maxHeartbeats 4000000 in
theorem sp_readsHouses {d : Nat} {M : MH} {V0 : MVal} (hS : MS (msh M) (mrv M)) (hT : MT V0) : MVi mX7_readsHouses (d + 1) [vp 94] M V0 (PH V0) := by
  refine mc_of (L := [vp 94, vu, vu]) (by decide +kernel) (Nat.le_of_ble_eq_true rfl) rfl ?_
  have hb := bt_rng hT (t := 0) (by decide)
  refine iX7_readsHouses_0 (iX7_readsHouses_1 (jX7_readsHouses_2 hS (iX7_readsHouses_5 (iX7_readsHouses_6 (iX7_readsHouses_7 (iX7_readsHouses_8 ?_))))))
  have loop : ∀ f k : Nat, ∀ (x y : Int) (V : MVal), f + k = 9 → x = k → y = 3 * k → V 94 2 = 0 → (∀ j, j < k → V 97 j = ow V0 j ∧ V 98 j = pr V0 j) → (∀ q, q ≠ 94 → q ≠ 97 → q ≠ 98 → V q = V0 q) → (∀ j, j ≠ 2 → V 94 j = V0 94 j) → (hP (bt V0 0) (tn V0 0) = if k = 0 ∧ tn V0 0 = 0 then (-1, 0) else hF (bt V0 0) (tn V0 0) f k) → k ≤ 8 → MW mX7_readsHouses (d + 1) 9 [vp 94, vi x, vi y] [] (sI M V) (Vi M (PH V0)) := by
    intro f
    induction f with
    | zero =>
      intro k x y V h1 h2 h3 h4 h5 h6 h7 h8 h9
      omega
    | succ f ih =>
      intro k x y V h1 h2 h3 h4 h5 h6 h7 h8 h9
      subst h2 h3
      have e95 := h6 95 (by decide) (by decide) (by decide)
      have e96 := h6 96 (by decide) (by decide) (by decide)
      have eb : bt V = bt V0 := bt_congr e95 e96
      have hTV : MT V := by unfold MT; rw [e95, e96]; exact hT
      have hT1 := hT.1
      have hn : V 95 0 = tn V0 0 := by rw [e95]; unfold tn; omega
      have hn30 : tn V0 0 ≤ 30 := by unfold tn; omega
      have b0 := hb (3 * k)
      have b1 := hb (3 * k + 1)
      have b2 := hb (3 * k + 2)
      have go : ¬ (k = 0 ∧ tn V0 0 = 0) → MW mX7_readsHouses (d + 1) 23 [vp 94, vi k, vi (3 * k)] [] (sI M V) (Vi M (PH V0)) := by
        intro hne
        rw [if_neg hne] at h8
        unfold hF at h8
        have fail : ∀ c : Int, hP (bt V0 0) (tn V0 0) = (c, 0) → PH V0 c V := by
          intro c hc
          refine ⟨by unfold fH; rw [hc], by unfold nH; rw [hc]; exact h4, fun j hj => ?_, h6, h7⟩
          unfold nH at hj
          rw [hc] at hj
          simp at hj
        refine iX7_readsHouses_23 (iX7_readsHouses_24 (iX7_readsHouses_26 (by omega) (by omega) (fun g1 => ?_) (fun g1 => ?_)))
        · refine iX7_readsHouses_45 (iX7_readsHouses_46 ?_)
          rw [if_pos (Or.inl (by omega))] at h8
          exact ⟨V, rfl, fail _ h8⟩
        · refine iX7_readsHouses_29 (iX7_readsHouses_30 (iX7_readsHouses_31 ?_))
          refine jX7_readsHouses_32 hS (sp_byteAt hS hTV (t := 0) (k := 3 * k) (by decide) (by omega)) ?_
          rintro z V' ⟨rfl, rfl⟩
          rw [eb]
          refine iX7_readsHouses_35 (iX7_readsHouses_37 (jX7_readsHouses_39 (sp_X7_in (by omega) (by omega) (by omega)) (iX7_readsHouses_42 bzR (fun h0 => have g2 := bz_ne h0; ?_) (fun h0 => have g2 := bz_eq h0; ?_))))
          · rw [if_neg (by omega)] at h8
            refine iX7_readsHouses_47 (iX7_readsHouses_48 (iX7_readsHouses_49 (iX7_readsHouses_50 (iX7_readsHouses_51 ?_))))
            refine jX7_readsHouses_52 hS (sp_byteAt hS hTV (t := 0) (k := 3 * k + 1) (by decide) (by omega)) ?_
            rintro z V' ⟨rfl, rfl⟩
            rw [eb]
            refine iX7_readsHouses_55 (iX7_readsHouses_57 (jX7_readsHouses_59 (sp_X7_in (by omega) (by omega) (by omega)) (iX7_readsHouses_62 bzR (fun h0 => have g3 := bz_ne h0; ?_) (fun h0 => have g3 := bz_eq h0; ?_))))
            · rw [if_neg (not_not_intro g3)] at h8
              refine iX7_readsHouses_69 (jX7_readsHouses_70 hS (iX7_readsHouses_73 (iX7_readsHouses_74 (iX7_readsHouses_75 (iX7_readsHouses_76 ?_)))))
              refine jX7_readsHouses_77 hS (sp_byteAt hS hTV (t := 0) (k := 3 * k) (by decide) (by omega)) ?_
              rintro z V' ⟨rfl, rfl⟩
              rw [eb]
              refine iX7_readsHouses_80 (iX7_readsHouses_82 (jX7_readsHouses_83 hS ⟨by omega, by omega⟩ (iX7_readsHouses_84 (jX7_readsHouses_85 hS (iX7_readsHouses_88 (iX7_readsHouses_89 (iX7_readsHouses_90 (iX7_readsHouses_91 (iX7_readsHouses_92 (iX7_readsHouses_93 ?_))))))))))
              generalize hV1 : u2 V 97 ((k : Int)).toNat (bt V0 0 (3 * k) - 48) = V1
              rw [show ((k : Int)).toNat = k by omega] at hV1
              have e95' : V1 95 = V0 95 := by rw [← hV1, u2_ne (by decide)]; exact e95
              have e96' : V1 96 = V0 96 := by rw [← hV1, u2_ne (by decide)]; exact e96
              have eb' : bt V1 = bt V0 := bt_congr e95' e96'
              have hTV' : MT V1 := by unfold MT; rw [e95', e96']; exact hT
              refine jX7_readsHouses_94 hS (sp_byteAt hS hTV' (t := 0) (k := 3 * k + 1) (by decide) (by omega)) ?_
              rintro z V' ⟨rfl, rfl⟩
              rw [eb']
              refine iX7_readsHouses_97 (iX7_readsHouses_99 (jX7_readsHouses_100 hS ⟨by omega, by omega⟩ ?_))
              generalize hV2 : u2 V1 98 ((k : Int)).toNat (bt V0 0 (3 * k + 1) - 48) = V2
              rw [show ((k : Int)).toNat = k by omega] at hV2
              have f97 : ∀ j, j < k + 1 → V2 97 j = ow V0 j ∧ V2 98 j = pr V0 j := by
                intro j hj
                rw [← hV2, u2_ne (by decide), ← hV1]
                by_cases e : j = k
                · subst e
                  exact ⟨u2_at, u2_at⟩
                · rw [u2_off e, u2_off e, u2_ne (by decide)]
                  exact h5 j (by omega)
              have f6 : ∀ q, q ≠ 94 → q ≠ 97 → q ≠ 98 → V2 q = V0 q := by
                intro q q1 q2 q3
                rw [← hV2, u2_ne q3, ← hV1, u2_ne q2]
                exact h6 q q1 q2 q3
              have f94 : ∀ j, V2 94 j = V 94 j := by
                intro j
                rw [← hV2, u2_ne (by decide), ← hV1, u2_ne (by decide)]
              have hn2 : V2 95 0 = tn V0 0 := by rw [f6 95 (by decide) (by decide) (by decide), ← e95]; exact hn
              refine iX7_readsHouses_101 (iX7_readsHouses_104 (iX7_readsHouses_107 (iX7_readsHouses_108 (jX7_readsHouses_109 hS (iX7_readsHouses_112 (jX7_readsHouses_113 hS (iX7_readsHouses_114 (by omega) (by omega) (fun g4 => ?_) (fun g4 => ?_))))))))
              · rw [if_neg (by omega)] at h8
                have e95'' := f6 95 (by decide) (by decide) (by decide)
                have e96'' := f6 96 (by decide) (by decide) (by decide)
                have eb'' : bt V2 = bt V0 := bt_congr e95'' e96''
                have hTV'' : MT V2 := by unfold MT; rw [e95'', e96'']; exact hT
                refine iX7_readsHouses_124 (iX7_readsHouses_125 (iX7_readsHouses_126 ?_))
                rw [show (3 * (k : Int) + 2) = ((3 * k + 2 : Nat) : Int) by omega]
                refine jX7_readsHouses_127 hS (sp_byteAt hS hTV'' (t := 0) (k := 3 * k + 2) (by decide) (by omega)) ?_
                rintro z V' ⟨rfl, rfl⟩
                rw [eb'']
                refine iX7_readsHouses_130 (iX7_readsHouses_132 (by omega) (by omega) (fun g5 => ?_) (fun g5 => ?_))
                · rw [if_neg (not_not_intro g5)] at h8
                  refine iX7_readsHouses_137 (iX7_readsHouses_140 ?_)
                  refine ih (k + 1) _ _ V2 (by omega) (by omega) (by omega) ?_ f97 f6 ?_ ?_ (by omega)
                  · rw [f94]; exact h4
                  · intro j hj; rw [f94]; exact h7 j hj
                  · rw [if_neg (by omega)]; exact h8
                · rw [if_pos g5] at h8
                  refine iX7_readsHouses_135 (iX7_readsHouses_136 ?_)
                  refine ⟨V2, rfl, by unfold fH; rw [h8]; dsimp only; omega, by unfold nH; rw [h8, f94]; exact h4, fun j hj => ?_, f6, fun j hj => by rw [f94]; exact h7 j hj⟩
                  unfold nH at hj
                  rw [h8] at hj
                  simp at hj
              · rw [if_pos (by omega)] at h8
                refine iX7_readsHouses_117 (iX7_readsHouses_118 (jX7_readsHouses_119 hS (iX7_readsHouses_122 (iX7_readsHouses_123 ?_))))
                refine ⟨_, rfl, by unfold fH; rw [h8], ?_, fun j hj => ?_, fun q q1 q2 q3 => ?_, fun j hj => ?_⟩
                · rw [u2_at]; unfold nH; rw [h8]; dsimp only; omega
                · unfold nH at hj
                  rw [h8] at hj
                  rw [u2_ne (by decide), u2_ne (by decide)]
                  exact f97 j hj
                · rw [u2_ne q1]; exact f6 q q1 q2 q3
                · rw [u2_off hj, f94]; exact h7 j hj
            · rw [if_pos g3] at h8
              refine iX7_readsHouses_65 (iX7_readsHouses_66 (iX7_readsHouses_67 (iX7_readsHouses_68 ?_)))
              exact ⟨V, rfl, fail _ h8⟩
          · rw [if_pos (Or.inr g2)] at h8
            refine iX7_readsHouses_45 (iX7_readsHouses_46 ?_)
            exact ⟨V, rfl, fail _ h8⟩
      refine iX7_readsHouses_9 (iX7_readsHouses_10 (jX7_readsHouses_11 hS (iX7_readsHouses_14 (jX7_readsHouses_15 hS (iX7_readsHouses_16 (by omega) (by omega) (fun g0 => ?_) (fun g0 => ?_))))))
      · exact go (by omega)
      · refine iX7_readsHouses_19 (iX7_readsHouses_20 (by omega) (fun g1 => ?_) (fun g1 => ?_))
        · refine iX7_readsHouses_143 (iX7_readsHouses_144 ?_)
          refine ⟨V, rfl, ?_⟩
          rw [if_pos (by omega)] at h8
          refine ⟨by unfold fH; rw [h8], by unfold nH; rw [h8]; exact h4, fun j hj => ?_, h6, h7⟩
          unfold nH at hj
          rw [h8] at hj
          simp at hj
        · exact go (by omega)
  refine loop 9 0 0 0 _ rfl rfl (by omega) u2_at (fun j hj => by omega) (fun q h _ _ => u2_ne h) (fun j hj => u2_off hj) ?_ (by omega)
  unfold hP
  by_cases h : tn V0 0 = 0
  · rw [if_pos h, if_pos ⟨rfl, h⟩]
  · rw [if_neg h, if_neg (fun q => h q.2)]
