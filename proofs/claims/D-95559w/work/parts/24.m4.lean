/-! the model: people, reads -/
def pF (b : Nat → Int) (n : Nat) : Nat → Nat → Int × Nat
  | 0, _ => (0, 0)
  | f + 1, k => if n ≤ 2 * k then (-1, k) else if k = 8 ∨ (b (2 * k) ≠ 111 ∧ b (2 * k) ≠ 103 ∧ b (2 * k) ≠ 108) then (2 * (k : Int), 0) else if b (2 * k + 1) ≠ 45 ∧ ¬ (48 ≤ b (2 * k + 1) ∧ b (2 * k + 1) ≤ 55) then (2 * (k : Int) + 1, 0) else pF b n f (k + 1)
def nP (V : MVal) : Nat := (pF (bt V 1) (tn V 1) 9 0).2
def fP (V : MVal) : Int := (pF (bt V 1) (tn V 1) 9 0).1
def kd (V : MVal) (j : Nat) : Int := if bt V 1 (2 * j) = 111 then 0 else if bt V 1 (2 * j) = 103 then 1 else 2
def pl0 (V : MVal) (j : Nat) : Int := if bt V 1 (2 * j + 1) = 45 then -1 else bt V 1 (2 * j + 1) - 48
def pl (V : MVal) (j : Nat) : Int := if pl0 V j < nH V then pl0 V j else -1
theorem pF_ok (b : Nat → Int) (n : Nat) : ∀ f k, f + k = 9 → k ≤ 8 → (pF b n f k).2 ≤ 8 ∧ ∀ j, k ≤ j → j < (pF b n f k).2 → b (2 * j + 1) = 45 ∨ (48 ≤ b (2 * j + 1) ∧ b (2 * j + 1) ≤ 55)
  | 0, k, _, _ => by simp [pF]
  | f + 1, k, hf, hk => by
    unfold pF
    split
    · exact ⟨hk, fun j h1 h2 => by simp at h2; omega⟩
    · split
      · exact ⟨Nat.zero_le _, fun j h1 h2 => by simp at h2⟩
      · rename_i h2
        split
        · exact ⟨Nat.zero_le _, fun j h1 h2 => by simp at h2⟩
        · rename_i h3
          obtain ⟨g1, g2⟩ := pF_ok b n f (k + 1) (by omega) (by omega)
          refine ⟨g1, fun j h4 h5 => ?_⟩
          by_cases e : j = k
          · subst e; omega
          · exact g2 j (by omega) h5
theorem pF_rng (b : Nat → Int) (n : Nat) : ∀ f k, f + k = 9 → -1 ≤ (pF b n f k).1 ∧ (pF b n f k).1 ≤ 30
  | 0, k, _ => by simp [pF]
  | f + 1, k, hf => by
    unfold pF
    split
    · dsimp only; omega
    · split
      · dsimp only; omega
      · split
        · dsimp only; omega
        · exact pF_rng b n f (k + 1) (by omega)
theorem nP_le (V : MVal) : nP V ≤ 8 := (pF_ok _ _ 9 0 rfl (by decide)).1
theorem fP_rng (V : MVal) : -1 ≤ fP V ∧ fP V ≤ 30 := pF_rng _ _ 9 0 rfl
theorem pl0_rng {V : MVal} {j : Nat} (h : j < nP V) : -1 ≤ pl0 V j ∧ pl0 V j ≤ 7 := by
  have := (pF_ok (bt V 1) (tn V 1) 9 0 rfl (by decide)).2 j (Nat.zero_le _) h
  unfold pl0
  split <;> omega
theorem pl_rng {V : MVal} {j : Nat} (h : j < nP V) : -1 ≤ pl V j ∧ pl V j < nH V := by
  have := pl0_rng h
  unfold pl
  split <;> omega
theorem kd_rng (V : MVal) (j : Nat) : 0 ≤ kd V j ∧ kd V j ≤ 2 := by
  unfold kd
  split
  · omega
  · split <;> omega
/-- what readsPeople leaves -/
def PPl (V0 : MVal) (z : Int) (V : MVal) : Prop := z = fP V0 ∧ V 94 5 = nP V0 ∧ (∀ j, j < nP V0 → V 99 j = kd V0 j ∧ V 100 j = pl0 V0 j) ∧ (∀ q, q ≠ 94 → q ≠ 99 → q ≠ 100 → V q = V0 q) ∧ ∀ j, j ≠ 5 → V 94 j = V0 94 j
set_option maxHeartbeats 4000000 in
theorem sp_readsPeople {d : Nat} {M : MH} {V0 : MVal} (hS : MS (msh M) (mrv M)) (hT : MT V0) : MVi mX7_readsPeople (d + 1) [vp 94] M V0 (PPl V0) := by
  refine mc_of (L := [vp 94, vu, vu, vu, vu]) (by decide +kernel) (Nat.le_of_ble_eq_true rfl) rfl ?_
  have hb := bt_rng hT (t := 1) (by decide)
  refine iX7_readsPeople_0 (iX7_readsPeople_1 (jX7_readsPeople_2 hS (iX7_readsPeople_5 (iX7_readsPeople_6 (iX7_readsPeople_7 (iX7_readsPeople_8 ?_))))))
  have loop : ∀ f k : Nat, ∀ (x y : Int) (v3 v4 : MV) (V : MVal), f + k = 9 → x = k → y = 2 * k → V 94 5 = 0 → (∀ j, j < k → V 99 j = kd V0 j ∧ V 100 j = pl0 V0 j) → (∀ q, q ≠ 94 → q ≠ 99 → q ≠ 100 → V q = V0 q) → (∀ j, j ≠ 5 → V 94 j = V0 94 j) → pF (bt V0 1) (tn V0 1) 9 0 = pF (bt V0 1) (tn V0 1) f k → k ≤ 8 → mcat v3 = 1 → MW mX7_readsPeople (d + 1) 9 [vp 94, vi x, vi y, v3, v4] [] (sI M V) (Vi M (PPl V0)) := by
    intro f
    induction f with
    | zero =>
      intro k x y v3 v4 V h1 h2 h3 h4 h5 h6 h7 h8 h9
      omega
    | succ f ih =>
      intro k x y v3 v4 V h1 h2 h3 h4 h5 h6 h7 h8 h9 hv3
      subst h2 h3
      have e95 := h6 95 (by decide) (by decide) (by decide)
      have e96 := h6 96 (by decide) (by decide) (by decide)
      have eb : bt V = bt V0 := bt_congr e95 e96
      have hTV : MT V := by unfold MT; rw [e95, e96]; exact hT
      have hT1 := hT.2.1
      have hn : V 95 1 = tn V0 1 := by rw [e95]; unfold tn; omega
      have hn30 : tn V0 1 ≤ 24 := by unfold tn; omega
      have b0 := hb (2 * k)
      have b1 := hb (2 * k + 1)
      unfold pF at h8
      have fail : ∀ c : Int, pF (bt V0 1) (tn V0 1) 9 0 = (c, 0) → PPl V0 c V := by
        intro c hc
        refine ⟨by unfold fP; rw [hc], by unfold nP; rw [hc]; exact h4, fun j hj => ?_, h6, h7⟩
        unfold nP at hj
        rw [hc] at hj
        simp at hj
      have h8 : pF (bt V0 1) (tn V0 1) 9 0 = _ := h8
      refine iX7_readsPeople_9 (iX7_readsPeople_10 (jX7_readsPeople_11 hS (iX7_readsPeople_14 (jX7_readsPeople_15 hS (iX7_readsPeople_16 (by omega) (by omega) (fun g0 => ?_) (fun g0 => ?_))))))
      · rw [if_pos (by omega)] at h8
        refine iX7_readsPeople_143 (iX7_readsPeople_144 (jX7_readsPeople_145 hS (iX7_readsPeople_148 (iX7_readsPeople_149 ?_))))
        refine ⟨_, rfl, by unfold fP; rw [h8], ?_, fun j hj => ?_, fun q q1 q2 q3 => ?_, fun j hj => ?_⟩
        · rw [u2_at]; unfold nP; rw [h8]
        · unfold nP at hj
          rw [h8] at hj
          rw [u2_ne (by decide), u2_ne (by decide)]
          exact h5 j hj
        · rw [u2_ne q1]; exact h6 q q1 q2 q3
        · rw [u2_off hj]; exact h7 j hj
      · rw [if_neg (by omega)] at h8
        refine iX7_readsPeople_19 (iX7_readsPeople_20 (iX7_readsPeople_21 ?_))
        refine jX7_readsPeople_22 hS (sp_byteAt hS hTV (t := 1) (k := 2 * k) (by decide) (by omega)) ?_
        rintro z V' ⟨rfl, rfl⟩
        rw [eb]
        have go : ¬ (k = 8 ∨ (bt V0 1 (2 * k) ≠ 111 ∧ bt V0 1 (2 * k) ≠ 103 ∧ bt V0 1 (2 * k) ≠ 108)) → MW mX7_readsPeople (d + 1) 52 [vp 94, vi k, vi (2 * k), vi (bt V0 1 (2 * k)), v4] [] (sI M V) (Vi M (PPl V0)) := by
          intro hne
          rw [if_neg hne] at h8
          refine iX7_readsPeople_52 (iX7_readsPeople_53 (iX7_readsPeople_54 (iX7_readsPeople_55 (iX7_readsPeople_56 ?_))))
          refine jX7_readsPeople_57 hS (sp_byteAt hS hTV (t := 1) (k := 2 * k + 1) (by decide) (by omega)) ?_
          rintro z V' ⟨rfl, rfl⟩
          rw [eb]
          have go2 : ¬ (bt V0 1 (2 * k + 1) ≠ 45 ∧ ¬ (48 ≤ bt V0 1 (2 * k + 1) ∧ bt V0 1 (2 * k + 1) ≤ 55)) → MW mX7_readsPeople (d + 1) 85 [vp 94, vi k, vi (2 * k), vi (bt V0 1 (2 * k)), vi (bt V0 1 (2 * k + 1))] [] (sI M V) (Vi M (PPl V0)) := by
            intro hne2
            rw [if_neg hne2] at h8
            have fin : ∀ c e : Int, c = kd V0 k → e = pl0 V0 k → MW mX7_readsPeople (d + 1) 133 [vp 94, vi k, vi (2 * k), vi (bt V0 1 (2 * k)), vi (bt V0 1 (2 * k + 1))] [vi e, vi k, vp 100] (sI M (u2 V 99 k c)) (Vi M (PPl V0)) := by
              intro c e hc he
              refine jX7_readsPeople_133 hS ⟨by omega, by omega⟩ (iX7_readsPeople_134 (iX7_readsPeople_137 (iX7_readsPeople_140 ?_)))
              rw [show ((k : Int)).toNat = k by omega]
              refine ih (k + 1) _ _ _ _ _ (by omega) (by omega) (by omega) ?_ ?_ ?_ ?_ h8 (by omega) rfl
              · rw [u2_ne (by decide), u2_ne (by decide)]; exact h4
              · intro j hj
                by_cases ej : j = k
                · subst ej
                  rw [u2_ne (by decide), u2_at, u2_at]
                  exact ⟨hc, he⟩
                · rw [u2_ne (by decide), u2_off ej, u2_off ej, u2_ne (by decide)]
                  exact h5 j (by omega)
              · intro q q1 q2 q3
                rw [u2_ne q3, u2_ne q2]; exact h6 q q1 q2 q3
              · intro j hj
                rw [u2_ne (by decide), u2_ne (by decide)]; exact h7 j hj
            have fin0 : ∀ c : Int, c = kd V0 k → MW mX7_readsPeople (d + 1) 111 [vp 94, vi k, vi (2 * k), vi (bt V0 1 (2 * k)), vi (bt V0 1 (2 * k + 1))] [vi c, vi k, vp 99] (sI M V) (Vi M (PPl V0)) := by
              intro c hc
              refine jX7_readsPeople_111 hS ⟨by omega, by omega⟩ ?_
              rw [show ((k : Int)).toNat = k by omega]
              refine iX7_readsPeople_112 (jX7_readsPeople_113 hS (iX7_readsPeople_116 (iX7_readsPeople_117 (iX7_readsPeople_119 (iX7_readsPeople_121 (by omega) (by omega) (fun g => ?_) (fun g => ?_))))))
              · refine iX7_readsPeople_128 (iX7_readsPeople_130 (iX7_readsPeople_132 ?_))
                exact fin _ _ hc (by unfold pl0; rw [if_neg g])
              · refine iX7_readsPeople_124 (iX7_readsPeople_125 ?_)
                exact fin _ _ hc (by unfold pl0; rw [if_pos g])
            refine iX7_readsPeople_85 (jX7_readsPeople_86 hS (iX7_readsPeople_89 (iX7_readsPeople_90 (iX7_readsPeople_91 (iX7_readsPeople_93 (by omega) (by omega) (fun g => ?_) (fun g => ?_))))))
            · refine iX7_readsPeople_100 (iX7_readsPeople_101 (iX7_readsPeople_103 (by omega) (by omega) (fun g' => ?_) (fun g' => ?_)))
              · refine iX7_readsPeople_110 ?_
                exact fin0 _ (by unfold kd; rw [if_neg g, if_neg g'])
              · refine iX7_readsPeople_106 (iX7_readsPeople_107 ?_)
                exact fin0 _ (by unfold kd; rw [if_neg g, if_pos g'])
            · refine iX7_readsPeople_96 (iX7_readsPeople_97 ?_)
              exact fin0 _ (by unfold kd; rw [if_pos g])
          refine iX7_readsPeople_60 (iX7_readsPeople_62 (iX7_readsPeople_64 (iX7_readsPeople_66 (by omega) (by omega) (fun g1 => ?_) (fun g1 => ?_))))
          · exact go2 (by omega)
          · refine iX7_readsPeople_69 (iX7_readsPeople_71 (iX7_readsPeople_73 (jX7_readsPeople_75 (sp_X7_in (by omega) (by omega) (by omega)) (iX7_readsPeople_78 bzR (fun h0 => have g2 := bz_ne h0; ?_) (fun h0 => have g2 := bz_eq h0; ?_)))))
            · exact go2 (by omega)
            · rw [if_pos (by omega)] at h8
              refine iX7_readsPeople_81 (iX7_readsPeople_82 (iX7_readsPeople_83 (iX7_readsPeople_84 ?_)))
              exact ⟨V, rfl, fail _ h8⟩
        have bad : (k = 8 ∨ (bt V0 1 (2 * k) ≠ 111 ∧ bt V0 1 (2 * k) ≠ 103 ∧ bt V0 1 (2 * k) ≠ 108)) → MW mX7_readsPeople (d + 1) 50 [vp 94, vi k, vi (2 * k), vi (bt V0 1 (2 * k)), v4] [] (sI M V) (Vi M (PPl V0)) := by
          intro hne
          rw [if_pos hne] at h8
          refine iX7_readsPeople_50 (iX7_readsPeople_51 ?_)
          exact ⟨V, rfl, fail _ h8⟩
        refine iX7_readsPeople_25 (iX7_readsPeople_26 (iX7_readsPeople_27 (iX7_readsPeople_29 (by omega) (by omega) (fun g1 => ?_) (fun g1 => ?_))))
        · exact bad (by omega)
        · refine iX7_readsPeople_32 (iX7_readsPeople_33 (iX7_readsPeople_35 (by omega) (by omega) (fun g2 => ?_) (fun g2 => ?_)))
          · exact go (by omega)
          · refine iX7_readsPeople_38 (iX7_readsPeople_39 (iX7_readsPeople_41 (by omega) (by omega) (fun g3 => ?_) (fun g3 => ?_)))
            · exact go (by omega)
            · refine iX7_readsPeople_44 (iX7_readsPeople_45 (iX7_readsPeople_47 (by omega) (by omega) (fun g4 => ?_) (fun g4 => ?_)))
              · exact go (by omega)
              · exact bad (by omega)
  exact loop 9 0 0 0 vu vu _ rfl rfl (by omega) u2_at (fun j hj => by omega) (fun q h _ _ => u2_ne h) (fun j hj => u2_off hj) rfl (by omega) rfl
theorem sp_faultOf {d : Nat} {M : MH} {V0 : MVal} (hS : MS (msh M) (mrv M)) (hT : MT V0) {t : Nat} (ht : t < 2) : MVi mX7_faultOf (d + 2) [vp 94, vi t] M V0 (fun z V => if t = 0 then PH V0 z V else PPl V0 z V) := by
  refine mc_of (L := [vp 94, vi t]) (by decide +kernel) (Nat.le_of_ble_eq_true rfl) rfl ?_
  refine iX7_faultOf_0 (iX7_faultOf_1 (by omega) (fun h => ?_) (fun h => ?_))
  · refine iX7_faultOf_11 ?_
    refine jX7_faultOf_12 hS (sp_readsPeople hS hT) ?_
    intro z V' h1
    refine iX7_faultOf_15 ?_
    exact ⟨V', rfl, by show if t = 0 then PH V0 z V' else PPl V0 z V'; rw [if_neg (by omega)]; exact h1⟩
  · refine iX7_faultOf_4 ?_
    refine jX7_faultOf_5 hS (sp_readsHouses hS hT) ?_
    intro z V' h1
    refine iX7_faultOf_8 (iX7_faultOf_15 ?_)
    exact ⟨V', rfl, by show if t = 0 then PH V0 z V' else PPl V0 z V'; rw [if_pos (by omega)]; exact h1⟩
