/-! THE PEOPLE ARE READ: all of them -/
set_option maxHeartbeats 8000000 in
theorem sp_allF {d : Nat} {M : MH} {V W X : MVal} {R : RM} (hJ : CJ V R X M W) (hL : Lim R) : MCi mX1_all (d + 9) [vp 6] (sI M W) (fun z M' => z = fP V ∧ TXE 6 M W M' ∧ mhn M' ≤ mhn M + 12 ∧ mhs M' ≤ mhs M + 50 ∧ LC M' (miv M') 7 (5, 2) (nP V) ∧ ∀ i, i < nP V → miv M' (el M' 7 i) 0 = kd V i ∧ miv M' (el M' 7 i) 1 = plS V i) := by
  refine mc_of (L := [vp 6, vu]) (by decide +kernel) (Nat.le_of_ble_eq_true rfl) rfl ?_
  have hS := hJ.cs
  have hm := hJ.r.1
  have hT := hJ.mi.t
  have hl : LST M W 7 := hJ.l.2.1
  have k3 : (msh M 7).1 = 3 := congrArg Prod.fst (hS.1 7 (by decide) (by decide))
  refine iX1_all_0 (iX1_all_1 (cX1_all_2F hS (iX1_all_5 (cX1_all_6F hS ?_))))
  have t1 : TXE 6 M W (sI M (u2 W 6 2 0)) := TXE.at hl (by omega)
  have l1 : LST M (u2 W 6 2 0) 7 := t1.2.2.2.2.2.2.2.1
  obtain ⟨n, hn⟩ := Int.eq_ofNat_of_zero_le l1.2.2.1
  have n8 : n ≤ 8 := by have := l1.2.2.2; omega
  have clrH : ∀ {N : MH} {U : MVal}, LST N U 7 → ∀ n : Nat, U 7 2 = (n : Int) → (le N 7 = 0 ∧ n = 0 ∨ msh N (le N 7) = (104, 10)) := fun {N U} h n hn => by
    rcases h.2.1 with y | y
    · exact Or.inl ⟨y.1, by omega⟩
    · exact Or.inr y.2.2
  refine cX1_all_9FU hS (sp_J2_clear (d := d + 8) k3 l1.1 (clrH l1 n hn) hn n8) ?_
  intro M1 h1
  have t2 : TXE 6 M W M1 := by
    have g : TXE 6 M (u2 W 6 2 0) M1 := by rw [h1]; exact TXE.clr l1 hn (by omega) (by decide)
    exact TXE.tr (M1 := sI M (u2 W 6 2 0)) t1 g (by omega)
  have loop : ∀ f j : Nat, ∀ N : MH, j + f = 9 → StF V M W j N → FI V j → MW mX1_all (d + 9) 12 [vp 6, vu] [] (sI N (miv N)) (Ri (fun z M' => z = fP V ∧ TXE 6 M W M' ∧ mhn M' ≤ mhn M + 12 ∧ mhs M' ≤ mhs M + 50 ∧ LC M' (miv M') 7 (5, 2) (nP V) ∧ ∀ i, i < nP V → miv M' (el M' 7 i) 0 = kd V i ∧ miv M' (el M' 7 i) 1 = plS V i)) := by
    intro f
    induction f with
    | zero =>
      intro j N h1 h2 h3
      have := h3.1
      omega
    | succ f ih =>
      intro j N h1 h2 h3
      have h2' := h2
      obtain ⟨s1, s2, s3, s4, s5, s6⟩ := h2'
      have j8 := h3.1
      have hS := s1.cs hJ (Or.inr rfl)
      have hC := s1.t hJ (Or.inr rfl)
      have ty : miv N 6 1 = V 95 1 := hC.2.2.1
      have tn0 : V 95 1 = (tn V 1 : Int) := by unfold tn; have := hT.2.1; omega
      have tn30 : tn V 1 ≤ 30 := by unfold tn; have := hT.2.1; omega
      have pj : posF j ≤ 30 := by unfold posF; (try split) <;> omega
      refine iX1_all_12 (cX1_all_13F hS (iX1_all_16 (cX1_all_17F hS ?_)))
      rw [s4, ty, tn0]
      refine iX1_all_20 (by omega) (by omega) (fun g => ?_) (fun g => ?_)
      · refine iX1_all_30 (iX1_all_31 ?_)
        obtain ⟨e1, e2⟩ := h3.e (by omega)
        rw [e1, e2]
        refine ⟨rfl, s1, ?_, ?_, s5, s6⟩
        · show mhn N ≤ _
          split at s2 <;> omega
        · show mhs N ≤ _
          split at s3 <;> omega
      refine iX1_all_23 ?_
      refine iX1_all_24 (ci := 2) rfl (congrArg Prod.fst (hS.1 6 (by decide) (by decide))) (sp_nextF (d := d) hJ hL h2 h3 (by omega)) ?_ ?_
      · rintro v M' (⟨e, h4, h5⟩ | ⟨e0, e, -⟩)
        · cases e
          show MW mX1_all (d + 9) 27 _ [] (sI M' (miv M')) _
          refine iX1_all_27 ?_
          exact ih (j + 1) M' (by omega) h4 h5
        · cases e
      · rintro a M' (⟨e, -⟩ | ⟨e0, e, q1, q2, q3, q4, q5, q6⟩)
        · cases e
        · cases e
          refine mx_catch (s0 := 12) (e0 := 31) (h0 := 32) (ct := 33) rfl (by decide) (by decide) q382 (cls_of (ci := 9) rfl (by rw [q4])) ?_
          have hS2 := q1.cs hJ (Or.inr rfl)
          have l2 : LST M' (miv M') 7 := q1.2.2.2.2.2.2.2.1
          obtain ⟨n, hn⟩ := Int.eq_ofNat_of_zero_le l2.2.2.1
          have n8 : n ≤ 8 := by have := l2.2.2.2; omega
          refine iX1_all_32 (iX1_all_33 ?_)
          show MW mX1_all (d + 9) 34 _ _ (sI M' (miv M')) _
          refine iX1_all_34_2 (M := sI M' (miv M')) (congrArg Prod.fst (hS2.1 6 (by decide) (by decide))) (hS2.2 6 5 (by decide) (by decide) rfl) (iX1_all_37 (congrArg Prod.fst (hS2.1 7 (by decide) (by decide))) (sp_J2_clear (d := d + 8) (congrArg Prod.fst (hS2.1 7 (by decide) (by decide))) l2.1 (clrH l2 n hn) hn n8) ?_)
          intro M2 h4
          have ne : a ≠ 7 := fun e => by
            rw [e, hS2.1 7 (by decide) (by decide)] at q4
            cases q4
          have t3 : TXE 6 M W M2 := by
            have g : TXE 6 M' (miv M') M2 := by rw [h4]; exact TXE.clr l2 hn (by have := q1.1; omega) (by decide)
            exact q1.tr g (by omega)
          refine iX1_all_40 (iX1_all_41 (M := M2) ?_ (iX1_all_44 ⟨?_, t3, ?_, ?_, ⟨?_, fun k hk => ?_⟩, fun i hi => ?_⟩))
          · rw [h4]
            show (msh M' a).1 = 9
            rw [q4]
          · rw [h4]
            show u2 (u2 (miv M') 7 0 (miv M' 7 0 + 1)) 7 2 0 a 6 = _
            rw [u2_ne ne, u2_ne ne]; exact q5
          · rw [h4]; exact q2
          · rw [h4]; exact q3
          · rw [h4, q6]
            show u2 (u2 (miv M') 7 0 (miv M' 7 0 + 1)) 7 2 0 7 2 = _
            rw [u2_at]; rfl
          · rw [q6] at hk; omega
          · rw [q6] at hi; omega
  refine loop 9 0 M1 (by omega) ⟨t2, ?_, ?_, ?_, ⟨?_, fun k hk => absurd hk (by omega)⟩, fun i hi => absurd hi (by omega)⟩ FI.z
  · rw [h1]; show mhn M ≤ _; omega
  · rw [h1]; show mhs M ≤ _; omega
  · rw [h1]
    show u2 (u2 (u2 W 6 2 0) 7 0 (u2 W 6 2 0 7 0 + 1)) 7 2 0 6 2 = _
    rw [u2_ne (by decide), u2_ne (by decide), u2_at]; rfl
  · rw [h1]
    show u2 (u2 (u2 W 6 2 0) 7 0 (u2 W 6 2 0 7 0 + 1)) 7 2 0 7 2 = _
    rw [u2_at]; rfl
/-- the text is fresh from now on -/
theorem CJ.frF {c s : Nat} {M : MH} {V W X : MVal} {R : RM} (h : CJ V (R.1 + c, R.2 + s) X M W) (hf : W 6 3 = 0) (hc : c ≤ 20) (hs : s ≤ 100) (h1 : LC M W 7 (5, 2) (nP V)) (h2 : ∀ i, i < nP V → W (el M 7 i) 0 = kd V i ∧ W (el M 7 i) 1 = plS V i) : CJ V R X M (u2 (u2 W 6 4 (fP V)) 6 3 1) := by
  have hst : W 2 3 = 1 := by
    rcases h.q.2.2 with z | ⟨z1, z2, z3, -⟩
    · exact z
    · rw [hf] at z3; cases z3
  have e : ∀ q, q ≠ 6 → u2 (u2 W 6 4 (fP V)) 6 3 1 q = W q := fun q hq => by rw [u2_ne hq, u2_ne hq]
  have ej : ∀ j, j ≠ 3 → j ≠ 4 → u2 (u2 W 6 4 (fP V)) 6 3 1 6 j = W 6 j := fun j h3 h4 => by rw [u2_off h3, u2_off h4]
  have e3 : u2 (u2 W 6 4 (fP V)) 6 3 1 6 3 = 1 := u2_at
  have e4 : u2 (u2 W 6 4 (fP V)) 6 3 1 6 4 = fP V := by rw [u2_off (by decide), u2_at]
  generalize u2 (u2 W 6 4 (fP V)) 6 3 1 = W2 at e ej e3 e4
  obtain ⟨g1, g2, g3, g4, g5, g6, g7, g8, g9, g10, g11⟩ := h
  have ed : ∀ q, 122 ≤ q → W2 q = W q := fun q hq => e q (by omega)
  refine ⟨g1, ⟨g2.1, ?_, ?_⟩, ⟨g3.1, fun q a b => by rw [e q (by omega)]; exact g3.2 q a b⟩, ⟨g4.1.w (e 4 (by decide)), g4.2.1.w (e 7 (by decide)), g4.2.2.w (e 87 (by decide))⟩, ?_, ?_, ⟨g7.1.w (e 87 (by decide)), fun k hk => by rw [ed _ (g7.1.2 k hk).2.1]; exact g7.2 k hk⟩, fun s hs => ?_, g9, ⟨?_, ?_, Or.inl (by rw [e 2 (by decide)]; exact hst)⟩, g11⟩
  · have := g2.2.1
    unfold fr20 at this ⊢
    rw [hf] at this
    rw [e3, e 3 (by decide), if_pos rfl]
    rw [if_neg (show ¬ (0 : Int) = 1 by decide)] at this
    show _ ≤ R.1
    have : _ ≤ R.1 + c := this
    omega
  · have := g2.2.2
    unfold fr20 at this ⊢
    rw [hf] at this
    rw [e3, e 3 (by decide), if_pos rfl]
    rw [if_neg (show ¬ (0 : Int) = 1 by decide)] at this
    show _ ≤ R.2
    have : _ ≤ R.2 + s := this
    omega
  · obtain ⟨t1, t2, t3, t4⟩ := g5
    exact ⟨by rw [e 3 (by decide)]; exact t1, by rw [e 5 (by decide)]; exact t2, by rw [ej 1 (by decide) (by decide)]; exact t3, by rw [e 8 (by decide)]; exact t4⟩
  · obtain ⟨p1, p2, p3, p4, p5⟩ := g6
    exact ⟨by rw [e 9 (by decide)]; exact p1, by rw [e 2 (by decide)]; exact p2, by rw [e 10 (by decide), e 11 (by decide)]; exact p3, by rw [e 2 (by decide)]; exact p4, fun x y hx hy => by rw [e (66 + x) (by omega), e (75 + x) (by omega)]; exact p5 x y hx hy⟩
  · rcases g8 s hs with z | ⟨z1, z2, z3, z4, z5, z6⟩
    · exact Or.inl z
    · exact Or.inr ⟨z1, z2, z3, z4, z5, fun i hi => by rw [ed _ z3]; exact z6 i hi⟩
  · rw [e 3 (by decide)]
    rcases g10.1 with z | z
    · exact Or.inl z
    · exact Or.inr ⟨z.1, z.2.w (e 3 (by decide)) (e 4 (by decide)) ed⟩
  · exact Or.inr ⟨e3, e4, h1.w (e 7 (by decide)), fun i hi => by rw [ed _ (h1.2 i hi).2.1]; exact h2 i hi⟩
set_option maxHeartbeats 4000000 in
theorem sp_readF {d : Nat} {M : MH} {V W X : MVal} {R : RM} (hC : CI V R X M W) : MCi mX1_read (d + 10) [vp 6] (sI M W) (fun z M' => z = fP V ∧ Up V R X M W M' ∧ miv M' 6 3 = 1) := by
  refine mc_of (L := [vp 6]) (by decide +kernel) (Nat.le_of_ble_eq_true rfl) rfl ?_
  have hS := hC.2.cs
  have h01 : W 6 3 = 0 ∨ W 6 3 = 1 := by
    rcases hC.2.q.2.1 with z | z
    · exact Or.inl z
    · exact Or.inr z.1
  refine iX1_read_0 (cX1_read_1F hS ?_)
  refine iX1_read_4 (by omega) (fun g => ?_) (fun g => ?_)
  · have h1 : W 6 3 = 1 := by omega
    have e1 : u2 W 6 3 1 = W := by rw [← h1, u2_same]
    refine iX1_read_15 (iX1_read_16 (cX1_read_17F hS (by omega) (iX1_read_20 ?_)))
    rw [e1]
    refine cX1_read_21F hS (iX1_read_24 ?_)
    exact ⟨(hC.2.ff h1).1, Up.rf hC, h1⟩
  · refine iX1_read_7 (iX1_read_8 (iX1_read_9 (ci := 2) rfl (congrArg Prod.fst (hS.1 6 (by decide) (by decide))) (sp_allF (d := d) hC.2 hC.1) ?_))
    rintro z M1 ⟨rfl, q1, q2, q3, q4, q5⟩
    have hS1 := q1.cs hC.2 (Or.inr rfl)
    show MW mX1_read (d + 10) 12 [vp 6] _ (sI M1 (miv M1)) _
    refine cX1_read_12F hS1 (iX1_read_15 (iX1_read_16 (cX1_read_17F hS1 (by omega) (iX1_read_20 (cX1_read_21F hS1 ?_)))))
    have f0 : miv M1 6 3 = 0 := by rw [q1.2.2.2.2.2.2.1 3 (by decide)]; exact g
    have J1 := CJ.ext q1 hC.2 (Or.inr rfl) g q2 q3
    have J2 := CJ.frF J1 f0 (by decide) (by decide) q4 q5
    refine iX1_read_24 ⟨?_, ⟨⟨hC.1, J2⟩, fun h => (show u2 (u2 (miv M1) 6 4 (fP V)) 6 3 1 3 3 = 1 from by rw [u2_ne (by decide), u2_ne (by decide), q1.2.2.2.2.2.1 3 (by have := hC.2.r.1; omega) (by decide) (by decide)]; exact h), fun _ => (show u2 (u2 (miv M1) 6 4 (fP V)) 6 3 1 6 3 = 1 from u2_at), fun h1 h2 => ?_, fun q q1' n1 n2 n3 n4 => ?_⟩, (show u2 (u2 (miv M1) 6 4 (fP V)) 6 3 1 6 3 = 1 from u2_at)⟩
    · show u2 (u2 (miv M1) 6 4 (fP V)) 6 3 1 6 4 = _
      rw [u2_off (by decide), u2_at]
    · exact absurd h2 (by rw [g]; decide)
    · show u2 (u2 (miv M1) 6 4 (fP V)) 6 3 1 q = _
      rw [u2_ne (by omega), u2_ne (by omega)]
      exact q1.2.2.2.2.2.1 q (by have := hC.2.r.1; omega) (by omega) (by omega)
theorem sp_sizeF {d : Nat} {M : MH} {V W X : MVal} {R : RM} (hC : CI V R X M W) : MCi mX1_size (d + 11) [vp 6] (sI M W) (fun z M' => z = nP V ∧ Up V R X M W M' ∧ miv M' 6 3 = 1) := by
  refine mc_of (L := [vp 6]) (by decide +kernel) (Nat.le_of_ble_eq_true rfl) rfl ?_
  have hS := hC.2.cs
  refine iX1_size_0 ?_
  refine cX1_size_1FU hS (sp_readF (d := d) hC) ?_
  rintro z M1 ⟨rfl, u1, u2⟩
  have hS := u1.1.2.cs
  refine iX1_size_4 (iX1_size_5 (cX1_size_6F hS ?_))
  refine cX1_size_9F hS (sp_J2_size (congrArg Prod.fst (hS.1 7 (by decide) (by decide)))) ?_
  rintro z W' ⟨rfl, rfl⟩
  refine iX1_size_12 ?_
  exact ⟨(u1.1.2.ff u2).2.1.1, u1, u2⟩
theorem sp_X0_people {d : Nat} {M : MH} {V W X : MVal} {R : RM} (hC : CI V R X M W) : MCi mX0_people (d + 12) [vp 2] (sI M W) (fun z M' => z = nP V ∧ Up V R X M W M' ∧ miv M' 6 3 = 1) := by
  refine mc_of (L := [vp 2]) (by decide +kernel) (Nat.le_of_ble_eq_true rfl) rfl ?_
  have hS := hC.2.cs
  refine iX0_people_0 (cX0_people_1 hS ?_)
  refine cX0_people_4U hS (sp_sizeF (d := d) hC) ?_
  rintro z M1 ⟨rfl, u1, u2⟩
  refine iX0_people_7 ?_
  exact ⟨rfl, u1, u2⟩
theorem sp_X0_isPerson {d : Nat} {M : MH} {V W X : MVal} {R : RM} (hC : CI V R X M W) {a : Int} (ha : inR a) : MCi mX0_isPerson (d + 13) [vp 2, vi a] (sI M W) (fun z M' => z = bz (0 ≤ a ∧ a < nP V) ∧ Up V R X M W M' ∧ miv M' 6 3 = 1) := by
  refine mc_of (L := [vp 2, vi a]) (by decide +kernel) (Nat.le_of_ble_eq_true rfl) rfl ?_
  have hS := hC.2.cs
  have n8 := nP_le V
  refine iX0_isPerson_0 (iX0_isPerson_1 (by omega) (iX0_isPerson_2 (iX0_isPerson_3 ?_)))
  refine cX0_isPerson_4U hS (sp_X0_people (d := d) hC) ?_
  rintro z M1 ⟨rfl, u1, u2⟩
  refine iX0_isPerson_7 (iX0_isPerson_8 (iX0_isPerson_9 (by omega) (cX0_isPerson_10 (sp_X0_in (by omega) (by omega) (by omega)) (iX0_isPerson_13 ?_ ?_))))
  · exact bz01
  · exact ⟨bz_iff (by omega), u1, u2⟩
theorem sp_X0_person {d k : Nat} {M : MH} {V W X : MVal} {R : RM} (hC : CI V R X M W) (hf : W 6 3 = 1) (hk : k < nP V) : MVr mX0_person (d + 4) [vp 2, vi k] M W (fun r W' => r = some (el M 7 k) ∧ W = W') := by
  refine mc_of (L := [vp 2, vi k]) (by decide +kernel) (Nat.le_of_ble_eq_true rfl) rfl ?_
  have hS := hC.2.cs
  have hR := hC.2.ff hf
  refine iX0_person_0 (cX0_person_1 hS (iX0_person_4 ?_))
  refine cX0_person_5 hS (sp_thingF (d := d) hS hC.2.l.2.1 (by rw [hR.2.1.1]; omega) (hR.2.1.2 k hk).1) ?_
  rintro r W' ⟨rfl, rfl⟩
  refine iX0_person_8 (cls_of (ci := 5) rfl (congrArg Prod.fst (hR.2.1.2 k hk).2.2.2)) (iX0_person_11 ⟨W, rfl, rfl, rfl⟩)
