/-! THE STREET IS READ: all of it -/
theorem u2_same {f : MVal} {p i : Nat} : u2 f p i (f p i) = f := by
  funext q j
  unfold u2
  split
  · rename_i h; rw [h.1, h.2]
  · rfl
/-- texts have been read, at most -/
def Up (V : MVal) (R : RM) (X : MVal) (M : MH) (W : MVal) (M' : MH) : Prop := CI V R X M' (miv M') ∧ (W 3 3 = 1 → miv M' 3 3 = 1) ∧ (W 6 3 = 1 → miv M' 6 3 = 1) ∧ (W 3 3 = 1 → W 6 3 = 1 → M' = sI M W) ∧ ∀ q, q ≤ 121 → q ≠ 3 → q ≠ 4 → q ≠ 6 → q ≠ 7 → miv M' q = W q
theorem Up.rf {V X W : MVal} {R : RM} {M : MH} (h : CI V R X M W) : Up V R X M W (sI M W) := ⟨h, id, id, fun _ _ => rfl, fun _ _ _ _ _ _ => rfl⟩
theorem Up.tr {V X W : MVal} {R : RM} {M M1 M2 : MH} (h : Up V R X M W M1) (g : Up V R X M1 (miv M1) M2) : Up V R X M W M2 :=
  ⟨g.1, fun a => g.2.1 (h.2.1 a), fun a => g.2.2.1 (h.2.2.1 a), fun a b => by
    have e1 := h.2.2.2.1 a b
    have e2 := g.2.2.2.1 (h.2.1 a) (h.2.2.1 b)
    rw [e2, e1]; rfl, fun q a b c d e => (g.2.2.2.2 q a b c d e).trans (h.2.2.2.2 q a b c d e)⟩

set_option maxHeartbeats 8000000 in
theorem sp_allR {d : Nat} {M : MH} {V W X : MVal} {R : RM} (hJ : CJ V R X M W) (hL : Lim R) : MCi mX1_all (d + 9) [vp 3] (sI M W) (fun z M' => z = fH V ∧ TXE 3 M W M' ∧ mhn M' ≤ mhn M + 12 ∧ mhs M' ≤ mhs M + 50 ∧ LC M' (miv M') 4 (4, 2) (nH V) ∧ ∀ i, i < nH V → miv M' (el M' 4 i) 0 = ow V i ∧ miv M' (el M' 4 i) 1 = pr V i) := by
  refine mc_of (L := [vp 3, vu]) (by decide +kernel) (Nat.le_of_ble_eq_true rfl) rfl ?_
  have hS := hJ.cs
  have hm := hJ.r.1
  have hT := hJ.mi.t
  have hl : LST M W 4 := hJ.l.1
  have k3 : (msh M 4).1 = 3 := congrArg Prod.fst (hS.1 4 (by decide) (by decide))
  refine iX1_all_0 (iX1_all_1 (cX1_all_2R hS (iX1_all_5 (cX1_all_6R hS ?_))))
  have t1 : TXE 3 M W (sI M (u2 W 3 2 0)) := TXE.at hl (by omega)
  have l1 : LST M (u2 W 3 2 0) 4 := t1.2.2.2.2.2.2.2.1
  obtain ⟨n, hn⟩ := Int.eq_ofNat_of_zero_le l1.2.2.1
  have n8 : n ≤ 8 := by have := l1.2.2.2; omega
  have clrH : ∀ {N : MH} {U : MVal}, LST N U 4 → ∀ n : Nat, U 4 2 = (n : Int) → (le N 4 = 0 ∧ n = 0 ∨ msh N (le N 4) = (104, 10)) := fun {N U} h n hn => by
    rcases h.2.1 with y | y
    · exact Or.inl ⟨y.1, by omega⟩
    · exact Or.inr y.2.2
  refine cX1_all_9RU hS (sp_J2_clear (d := d + 8) k3 l1.1 (clrH l1 n hn) hn n8) ?_
  intro M1 h1
  have t2 : TXE 3 M W M1 := by
    have g : TXE 3 M (u2 W 3 2 0) M1 := by rw [h1]; exact TXE.clr l1 hn (by omega) (by decide)
    exact TXE.tr (M1 := sI M (u2 W 3 2 0)) t1 g (by omega)
  have loop : ∀ f j : Nat, ∀ N : MH, j + f = 9 → StR V M W j N → RI V j → MW mX1_all (d + 9) 12 [vp 3, vu] [] (sI N (miv N)) (Ri (fun z M' => z = fH V ∧ TXE 3 M W M' ∧ mhn M' ≤ mhn M + 12 ∧ mhs M' ≤ mhs M + 50 ∧ LC M' (miv M') 4 (4, 2) (nH V) ∧ ∀ i, i < nH V → miv M' (el M' 4 i) 0 = ow V i ∧ miv M' (el M' 4 i) 1 = pr V i)) := by
    intro f
    induction f with
    | zero =>
      intro j N h1 h2 h3
      have := h3.1
      omega
    | succ f ih =>
      intro j N h1 h2 h3
      have h2' := h2
      obtain ⟨s1, s2, s3, s4, s5, s6⟩ := h2'
      have j8 := h3.1
      have hS := s1.cs hJ (Or.inl rfl)
      have hC := s1.t hJ (Or.inl rfl)
      have ty : miv N 3 1 = V 95 0 := hC.1
      have tn0 : V 95 0 = (tn V 0 : Int) := by unfold tn; have := hT.1; omega
      have tn30 : tn V 0 ≤ 30 := by unfold tn; have := hT.1; omega
      have pj : posR j ≤ 30 := by unfold posR; (try split) <;> omega
      refine iX1_all_12 (cX1_all_13R hS (iX1_all_16 (cX1_all_17R hS ?_)))
      rw [s4, ty, tn0]
      refine iX1_all_20 (by omega) (by omega) (fun g => ?_) (fun g => ?_)
      · refine iX1_all_30 (iX1_all_31 ?_)
        obtain ⟨e1, e2⟩ := h3.e (by omega)
        rw [e1, e2]
        refine ⟨rfl, s1, ?_, ?_, s5, s6⟩
        · show mhn N ≤ _
          split at s2 <;> omega
        · show mhs N ≤ _
          split at s3 <;> omega
      refine iX1_all_23 ?_
      refine iX1_all_24 (ci := 1) rfl (congrArg Prod.fst (hS.1 3 (by decide) (by decide))) (sp_nextR (d := d) hJ hL h2 h3 (by omega)) ?_ ?_
      · rintro v M' (⟨e, h4, h5⟩ | ⟨e0, e, -⟩)
        · cases e
          show MW mX1_all (d + 9) 27 _ [] (sI M' (miv M')) _
          refine iX1_all_27 ?_
          exact ih (j + 1) M' (by omega) h4 h5
        · cases e
      · rintro a M' (⟨e, -⟩ | ⟨e0, e, q1, q2, q3, q4, q5, q6⟩)
        · cases e
        · cases e
          refine mx_catch (s0 := 12) (e0 := 31) (h0 := 32) (ct := 33) rfl (by decide) (by decide) q382 (cls_of (ci := 9) rfl (by rw [q4])) ?_
          have hS2 := q1.cs hJ (Or.inl rfl)
          have l2 : LST M' (miv M') 4 := q1.2.2.2.2.2.2.2.1
          obtain ⟨n, hn⟩ := Int.eq_ofNat_of_zero_le l2.2.2.1
          have n8 : n ≤ 8 := by have := l2.2.2.2; omega
          refine iX1_all_32 (iX1_all_33 ?_)
          show MW mX1_all (d + 9) 34 _ _ (sI M' (miv M')) _
          refine iX1_all_34_1 (M := sI M' (miv M')) (congrArg Prod.fst (hS2.1 3 (by decide) (by decide))) (hS2.2 3 5 (by decide) (by decide) rfl) (iX1_all_37 (congrArg Prod.fst (hS2.1 4 (by decide) (by decide))) (sp_J2_clear (d := d + 8) (congrArg Prod.fst (hS2.1 4 (by decide) (by decide))) l2.1 (clrH l2 n hn) hn n8) ?_)
          intro M2 h4
          have ne : a ≠ 4 := fun e => by
            rw [e, hS2.1 4 (by decide) (by decide)] at q4
            cases q4
          have t3 : TXE 3 M W M2 := by
            have g : TXE 3 M' (miv M') M2 := by rw [h4]; exact TXE.clr l2 hn (by have := q1.1; omega) (by decide)
            exact q1.tr g (by omega)
          refine iX1_all_40 (iX1_all_41 (M := M2) ?_ (iX1_all_44 ⟨?_, t3, ?_, ?_, ⟨?_, fun k hk => ?_⟩, fun i hi => ?_⟩))
          · rw [h4]
            show (msh M' a).1 = 9
            rw [q4]
          · rw [h4]
            show u2 (u2 (miv M') 4 0 (miv M' 4 0 + 1)) 4 2 0 a 6 = _
            rw [u2_ne ne, u2_ne ne]; exact q5
          · rw [h4]; exact q2
          · rw [h4]; exact q3
          · rw [h4, q6]
            show u2 (u2 (miv M') 4 0 (miv M' 4 0 + 1)) 4 2 0 4 2 = _
            rw [u2_at]; rfl
          · rw [q6] at hk; omega
          · rw [q6] at hi; omega
  refine loop 9 0 M1 (by omega) ⟨t2, ?_, ?_, ?_, ⟨?_, fun k hk => absurd hk (by omega)⟩, fun i hi => absurd hi (by omega)⟩ RI.z
  · rw [h1]; show mhn M ≤ _; omega
  · rw [h1]; show mhs M ≤ _; omega
  · rw [h1]
    show u2 (u2 (u2 W 3 2 0) 4 0 (u2 W 3 2 0 4 0 + 1)) 4 2 0 3 2 = _
    rw [u2_ne (by decide), u2_ne (by decide), u2_at]; rfl
  · rw [h1]
    show u2 (u2 (u2 W 3 2 0) 4 0 (u2 W 3 2 0 4 0 + 1)) 4 2 0 4 2 = _
    rw [u2_at]; rfl
/-- the text is fresh from now on -/
theorem CJ.frR {c s : Nat} {M : MH} {V W X : MVal} {R : RM} (h : CJ V (R.1 + c, R.2 + s) X M W) (hf : W 3 3 = 0) (hc : c ≤ 20) (hs : s ≤ 100) (h1 : LC M W 4 (4, 2) (nH V)) (h2 : ∀ i, i < nH V → W (el M 4 i) 0 = ow V i ∧ W (el M 4 i) 1 = pr V i) : CJ V R X M (u2 (u2 W 3 4 (fH V)) 3 3 1) := by
  have hst : W 2 3 = 1 := by
    rcases h.q.2.2 with z | ⟨z1, z2, z3, -⟩
    · exact z
    · rw [hf] at z2; cases z2
  have e : ∀ q, q ≠ 3 → u2 (u2 W 3 4 (fH V)) 3 3 1 q = W q := fun q hq => by rw [u2_ne hq, u2_ne hq]
  have ej : ∀ j, j ≠ 3 → j ≠ 4 → u2 (u2 W 3 4 (fH V)) 3 3 1 3 j = W 3 j := fun j h3 h4 => by rw [u2_off h3, u2_off h4]
  have e3 : u2 (u2 W 3 4 (fH V)) 3 3 1 3 3 = 1 := u2_at
  have e4 : u2 (u2 W 3 4 (fH V)) 3 3 1 3 4 = fH V := by rw [u2_off (by decide), u2_at]
  generalize u2 (u2 W 3 4 (fH V)) 3 3 1 = W2 at e ej e3 e4
  obtain ⟨g1, g2, g3, g4, g5, g6, g7, g8, g9, g10, g11⟩ := h
  have ed : ∀ q, 122 ≤ q → W2 q = W q := fun q hq => e q (by omega)
  refine ⟨g1, ⟨g2.1, ?_, ?_⟩, ⟨g3.1, fun q a b => by rw [e q (by omega)]; exact g3.2 q a b⟩, ⟨g4.1.w (e 4 (by decide)), g4.2.1.w (e 7 (by decide)), g4.2.2.w (e 87 (by decide))⟩, ?_, ?_, ⟨g7.1.w (e 87 (by decide)), fun k hk => by rw [ed _ (g7.1.2 k hk).2.1]; exact g7.2 k hk⟩, fun s hs => ?_, g9, ⟨?_, ?_, Or.inl (by rw [e 2 (by decide)]; exact hst)⟩, g11⟩
  · have := g2.2.1
    unfold fr20 at this ⊢
    rw [hf] at this
    rw [e3, e 6 (by decide), if_pos rfl]
    rw [if_neg (show ¬ (0 : Int) = 1 by decide)] at this
    show _ ≤ R.1
    have : _ ≤ R.1 + c := this
    omega
  · have := g2.2.2
    unfold fr20 at this ⊢
    rw [hf] at this
    rw [e3, e 6 (by decide), if_pos rfl]
    rw [if_neg (show ¬ (0 : Int) = 1 by decide)] at this
    show _ ≤ R.2
    have : _ ≤ R.2 + s := this
    omega
  · obtain ⟨t1, t2, t3, t4⟩ := g5
    exact ⟨by rw [ej 1 (by decide) (by decide)]; exact t1, by rw [e 5 (by decide)]; exact t2, by rw [e 6 (by decide)]; exact t3, by rw [e 8 (by decide)]; exact t4⟩
  · obtain ⟨p1, p2, p3, p4, p5⟩ := g6
    exact ⟨by rw [e 9 (by decide)]; exact p1, by rw [e 2 (by decide)]; exact p2, by rw [e 10 (by decide), e 11 (by decide)]; exact p3, by rw [e 2 (by decide)]; exact p4, fun x y hx hy => by rw [e (66 + x) (by omega), e (75 + x) (by omega)]; exact p5 x y hx hy⟩
  · rcases g8 s hs with z | ⟨z1, z2, z3, z4, z5, z6⟩
    · exact Or.inl z
    · exact Or.inr ⟨z1, z2, z3, z4, z5, fun i hi => by rw [ed _ z3]; exact z6 i hi⟩
  · exact Or.inr ⟨e3, e4, h1.w (e 4 (by decide)), fun i hi => by rw [ed _ (h1.2 i hi).2.1]; exact h2 i hi⟩
  · rw [e 6 (by decide)]
    rcases g10.2.1 with z | z
    · exact Or.inl z
    · exact Or.inr ⟨z.1, z.2.w (e 6 (by decide)) (e 7 (by decide)) ed⟩
set_option maxHeartbeats 4000000 in
theorem sp_readR {d : Nat} {M : MH} {V W X : MVal} {R : RM} (hC : CI V R X M W) : MCi mX1_read (d + 10) [vp 3] (sI M W) (fun z M' => z = fH V ∧ Up V R X M W M' ∧ miv M' 3 3 = 1) := by
  refine mc_of (L := [vp 3]) (by decide +kernel) (Nat.le_of_ble_eq_true rfl) rfl ?_
  have hS := hC.2.cs
  have h01 : W 3 3 = 0 ∨ W 3 3 = 1 := by
    rcases hC.2.q.1 with z | z
    · exact Or.inl z
    · exact Or.inr z.1
  refine iX1_read_0 (cX1_read_1R hS ?_)
  refine iX1_read_4 (by omega) (fun g => ?_) (fun g => ?_)
  · have h1 : W 3 3 = 1 := by omega
    have e1 : u2 W 3 3 1 = W := by rw [← h1, u2_same]
    refine iX1_read_15 (iX1_read_16 (cX1_read_17R hS (by omega) (iX1_read_20 ?_)))
    rw [e1]
    refine cX1_read_21R hS (iX1_read_24 ?_)
    exact ⟨(hC.2.rf h1).1, Up.rf hC, h1⟩
  · refine iX1_read_7 (iX1_read_8 (iX1_read_9 (ci := 1) rfl (congrArg Prod.fst (hS.1 3 (by decide) (by decide))) (sp_allR (d := d) hC.2 hC.1) ?_))
    rintro z M1 ⟨rfl, q1, q2, q3, q4, q5⟩
    have hS1 := q1.cs hC.2 (Or.inl rfl)
    show MW mX1_read (d + 10) 12 [vp 3] _ (sI M1 (miv M1)) _
    refine cX1_read_12R hS1 (iX1_read_15 (iX1_read_16 (cX1_read_17R hS1 (by omega) (iX1_read_20 (cX1_read_21R hS1 ?_)))))
    have f0 : miv M1 3 3 = 0 := by rw [q1.2.2.2.2.2.2.1 3 (by decide)]; exact g
    have J1 := CJ.ext q1 hC.2 (Or.inl rfl) g q2 q3
    have J2 := CJ.frR J1 f0 (by decide) (by decide) q4 q5
    refine iX1_read_24 ⟨?_, ⟨⟨hC.1, J2⟩, fun _ => (show u2 (u2 (miv M1) 3 4 (fH V)) 3 3 1 3 3 = 1 from u2_at), fun h => (show u2 (u2 (miv M1) 3 4 (fH V)) 3 3 1 6 3 = 1 from by rw [u2_ne (by decide), u2_ne (by decide), q1.2.2.2.2.2.1 6 (by have := hC.2.r.1; omega) (by decide) (by decide)]; exact h), fun h1 h2 => ?_, fun q q1' n1 n2 n3 n4 => ?_⟩, (show u2 (u2 (miv M1) 3 4 (fH V)) 3 3 1 3 3 = 1 from u2_at)⟩
    · show u2 (u2 (miv M1) 3 4 (fH V)) 3 3 1 3 4 = _
      rw [u2_off (by decide), u2_at]
    · exact absurd h1 (by rw [g]; decide)
    · show u2 (u2 (miv M1) 3 4 (fH V)) 3 3 1 q = _
      rw [u2_ne (by omega), u2_ne (by omega)]
      exact q1.2.2.2.2.2.1 q (by have := hC.2.r.1; omega) (by omega) (by omega)
theorem sp_sizeR {d : Nat} {M : MH} {V W X : MVal} {R : RM} (hC : CI V R X M W) : MCi mX1_size (d + 11) [vp 3] (sI M W) (fun z M' => z = nH V ∧ Up V R X M W M' ∧ miv M' 3 3 = 1) := by
  refine mc_of (L := [vp 3]) (by decide +kernel) (Nat.le_of_ble_eq_true rfl) rfl ?_
  have hS := hC.2.cs
  refine iX1_size_0 ?_
  refine cX1_size_1RU hS (sp_readR (d := d) hC) ?_
  rintro z M1 ⟨rfl, u1, u2⟩
  have hS := u1.1.2.cs
  refine iX1_size_4 (iX1_size_5 (cX1_size_6R hS ?_))
  refine cX1_size_9R hS (sp_J2_size (congrArg Prod.fst (hS.1 4 (by decide) (by decide)))) ?_
  rintro z W' ⟨rfl, rfl⟩
  refine iX1_size_12 ?_
  exact ⟨(u1.1.2.rf u2).2.1.1, u1, u2⟩
theorem sp_X0_houses {d : Nat} {M : MH} {V W X : MVal} {R : RM} (hC : CI V R X M W) : MCi mX0_houses (d + 12) [vp 2] (sI M W) (fun z M' => z = nH V ∧ Up V R X M W M' ∧ miv M' 3 3 = 1) := by
  refine mc_of (L := [vp 2]) (by decide +kernel) (Nat.le_of_ble_eq_true rfl) rfl ?_
  have hS := hC.2.cs
  refine iX0_houses_0 (cX0_houses_1 hS ?_)
  refine cX0_houses_4U hS (sp_sizeR (d := d) hC) ?_
  rintro z M1 ⟨rfl, u1, u2⟩
  refine iX0_houses_7 ?_
  exact ⟨rfl, u1, u2⟩
theorem sp_X0_isHouse {d : Nat} {M : MH} {V W X : MVal} {R : RM} (hC : CI V R X M W) {a : Int} (ha : inR a) : MCi mX0_isHouse (d + 13) [vp 2, vi a] (sI M W) (fun z M' => z = bz (0 ≤ a ∧ a < nH V) ∧ Up V R X M W M' ∧ miv M' 3 3 = 1) := by
  refine mc_of (L := [vp 2, vi a]) (by decide +kernel) (Nat.le_of_ble_eq_true rfl) rfl ?_
  have hS := hC.2.cs
  have n8 := nH_le V
  refine iX0_isHouse_0 (iX0_isHouse_1 (by omega) (iX0_isHouse_2 (iX0_isHouse_3 ?_)))
  refine cX0_isHouse_4U hS (sp_X0_houses (d := d) hC) ?_
  rintro z M1 ⟨rfl, u1, u2⟩
  refine iX0_isHouse_7 (iX0_isHouse_8 (iX0_isHouse_9 (by omega) (cX0_isHouse_10 (sp_X0_in (by omega) (by omega) (by omega)) (iX0_isHouse_13 ?_ ?_))))
  · exact bz01
  · exact ⟨bz_iff (by omega), u1, u2⟩
theorem sp_X0_house_2 {d k : Nat} {M : MH} {V W X : MVal} {R : RM} (hC : CI V R X M W) (hf : W 3 3 = 1) (hk : k < nH V) : MVr mX0_house_2 (d + 4) [vp 2, vi k] M W (fun r W' => r = some (el M 4 k) ∧ W = W') := by
  refine mc_of (L := [vp 2, vi k]) (by decide +kernel) (Nat.le_of_ble_eq_true rfl) rfl ?_
  have hS := hC.2.cs
  have hR := hC.2.rf hf
  refine iX0_house_2_0 (cX0_house_2_1 hS (iX0_house_2_4 ?_))
  refine cX0_house_2_5 hS (sp_thingR (d := d) hS hC.2.l.1 (by rw [hR.2.1.1]; omega) (hR.2.1.2 k hk).1) ?_
  rintro r W' ⟨rfl, rfl⟩
  refine iX0_house_2_8 (cls_of (ci := 4) rfl (congrArg Prod.fst (hR.2.1.2 k hk).2.2.2)) (iX0_house_2_11 ⟨W, rfl, rfl, rfl⟩)
