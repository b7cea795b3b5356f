/-! private methods of the text's class -/
theorem KX.priv {G : GH} {s : State} (h : KX G s) {y : MethodName} (hp : Cond.privateMethod y ∈ tables_1) : s.PrivateAt y := by
  obtain ⟨s0, a0, k1, k2, k3, k4, k5, k6⟩ := h
  have e := k6 _ hp
  rw [← Cond.privateMethod_setVm k1] at e
  have q : (s0.setVm s.vm).PrivateAt y := Cond.privateMethod_at (args := a0) e
  exact q
theorem site_P {Y Y' : MD} {pc nx idx b n : Nat} {as S : List MV} {M : MH} {C0 C1 : String} {x2 : MethodName} (h : Dk Y pc (.invokevirtual idx) 3 nx) (hl : Cond.methodLink (my Y).cls idx (my Y') ∈ lw_all) (hinst : Cond.instanceMethod (my Y') ∈ lw_all) (hpriv : Cond.privateMethod (my Y') ∈ tables_1) (hx2 : x2.cls = (my Y').cls) (hsel : Cond.selects C1 x2 x2 ∈ lw_all) (hcw : mword Y' ∈ lw_all) (hn : argN Y' n) (hy : notMH (my Y').cls) (hC : ClsOf M b C0) (hlen : as.length = n) : Site Y pc nx Y' (vp b :: as) S M := by
  intro d G M0 p l e R s m args below meth c locs ls T cells slots hcx hR hsz X
  obtain ⟨hd, hnx⟩ := h
  obtain ⟨hexec, hb, -, hml, hown, hts, -, -, hK, -⟩ := hcx
  obtain ⟨cellB, hcell, hobj, hcls⟩ := hC.cell hR hK
  obtain ⟨mk, methM, hnamed, hmethM, hstM, habM⟩ := Cond.instanceMethod_spec (hts _ hinst)
  obtain ⟨m9, methM', cM, hn9, hmethM', -, -, -, -, -, -, hsigM⟩ := mword_spec (hts _ hcw)
  cases hnamed.symm.trans hn9
  cases hmethM.symm.trans hmethM'
  obtain ⟨c2, r2, m2, q1, q2, q3, q4, kP, hkP, hkPi⟩ := Cond.selects_spec (hts _ hsel)
  have e1 := findClass_of_methodNamed q3
  rw [hx2] at e1
  have e2 : m2.cls = mk.cls := Option.some.inj (e1.symm.trans (findClass_of_methodNamed hnamed))
  rw [e2] at hkP
  have hselP : selectMethod e.platform s.vm cellB.cls mk = .method mk := selectMethod_private hmethM (hK.2.2.2.2.2.priv hpriv mk methM hnamed hmethM)
  have hl1 : (as.map (rl G)).length = methM.sig.parameters.length := by rw [List.length_map, hlen]; exact argN_len hn hsigM
  obtain ⟨vm₁, X₁, hstep₁⟩ := X.invokevirtual hexec hown (hts _ hl) hnamed hmethM hstM hkP hkPi hy (a := rho G b) (cell := cellB) hcell
    (fun z h => by rw [h] at hobj; cases hobj) hselP hmethM habM hkP hkPi (g := F0 m pc ls (((vp b :: as).reverse ++ S).map (rl G))) rfl (argsL := as.map (rl G)) (rest := S.map (rl G)) hl1 (args_stackV G b as S) (by rw [hb]; exact hd)
  exact ⟨vm₁, mk, _, 3, X₁, hnamed, by rw [hb]; exact hd, hnx, hstep₁⟩
theorem iX1_read_9 {d b ci : Nat} {L S : List MV} {M : MH} {Q : Out → MH → Prop} {P : Int → MH → Prop} {r : vw_C} (hc : mcl[ci]? = some r) (hs : (msh M b).1 = ci) (hM : MCi mX1_all d [vp b] M P) (k : ∀ z M', P z M' → MW mX1_read (d + 1) 12 L (vi z :: S) M' Q) (h8 : Nat.ble (S.map mcat).sum 8 = true := by rfl) : MW mX1_read (d + 1) 9 L (vp b :: S) M Q :=
  mw_calli (as := [vp b]) (site_P (Y' := mX1_all) (n := 0) ⟨dX1_read_9, rfl⟩ q378 q380 (lw_t2 (List.mem_of_getElem? (i := 50) rfl)) (x2 := ⟨"SoldWithIt$Text", "torn", "()LSoldWithIt$Torn;"⟩) rfl q414 wX1_all nX1_all hX1_all (cls_of hc hs) rfl) kX1_all (Nat.le_of_ble_eq_true h8) hM k
theorem iX1_all_24 {d b ci : Nat} {L S : List MV} {M : MH} {Q Qs : Out → MH → Prop} {r : vw_C} (hc : mcl[ci]? = some r) (hs : (msh M b).1 = ci) (hM : MC mX1_next d [vp b] M Qs) (kr : ∀ v M', Qs (.inl v) M' → MW mX1_all (d + 1) 27 L (v.toList ++ S) M' Q) (kt : ∀ a M', Qs (.inr a) M' → MX mX1_all (d + 1) 24 L M' a Q) (h8 : Nat.ble (S.map mcat).sum 8 = true := by rfl) : MW mX1_all (d + 1) 24 L (vp b :: S) M Q :=
  mw_call (as := [vp b]) (site_P (Y' := mX1_next) (n := 0) ⟨dX1_all_24, rfl⟩ q387 q389 (lw_t2 (List.mem_of_getElem? (i := 59) rfl)) (x2 := ⟨"SoldWithIt$Text", "torn", "()LSoldWithIt$Torn;"⟩) rfl q414 wX1_next nX1_next hX1_next (cls_of hc hs) rfl) kX1_next.1 kX1_next.2.1 kX1_next.2.2.1 (Nat.le_of_ble_eq_true h8) hM kX1_next.2.2.2 kr kt
/-! cells of the texts -/
theorem sp_X10_init {d b : Nat} {M : MH} {W : MVal} {x y : Int} (hs : (msh M b).1 = 4) : MCv mX10_init (d + 1) [vp b, vi x, vi y] (sI M W) (fun M' => M' = sI M (u2 (u2 W b 0 x) b 1 y)) := by
  refine mc_of (L := [vp b, vi x, vi y]) (by decide +kernel) (Nat.le_of_ble_eq_true rfl) rfl ?_
  exact iX10_init_0 (iX10_init_1 (iX10_init_4 (iX10_init_5 (iX10_init_6 hs (iX10_init_9 (iX10_init_10 (iX10_init_11 hs (iX10_init_14 rfl))))))))
theorem sp_X9_init {d b : Nat} {M : MH} {W : MVal} {x y : Int} (hs : (msh M b).1 = 5) : MCv mX9_init (d + 1) [vp b, vi x, vi y] (sI M W) (fun M' => M' = sI M (u2 (u2 W b 0 x) b 1 y)) := by
  refine mc_of (L := [vp b, vi x, vi y]) (by decide +kernel) (Nat.le_of_ble_eq_true rfl) rfl ?_
  exact iX9_init_0 (iX9_init_1 (iX9_init_4 (iX9_init_5 (iX9_init_6 hs (iX9_init_9 (iX9_init_10 (iX9_init_11 hs (iX9_init_14 rfl))))))))
section
variable {a : Nat} {V X W W' : MVal} {M M' : MH} {R : RM}
theorem TXE.at (hl : LST M W (a + 1)) (ha : a + 1 < mhn M) {x : Int} : TXE a M W (sI M (u2 W a 2 x)) :=
  TXE.cells hl (Nat.le_refl _) (Nat.le_refl _) (fun _ _ => ⟨rfl, rfl⟩) (fun p _ n => by show u2 W a 2 x p = W p; rw [u2_ne n]) (fun j hj => by show u2 W a 2 x a j = W a j; rw [u2_off hj]) ha
theorem TXE.new (hl : LST M W (a + 1)) (ha : a + 1 < mhn M) {k n : Nat} : TXE a M W (wN (sI M W) k n) :=
  TXE.cells hl (Nat.le_succ _) (Nat.le_add_right _ _) (fun p hp => ⟨msh_wN_ne (M := sI M W) (Nat.ne_of_lt hp), mrv_wN_ne (M := sI M W) (Nat.ne_of_lt hp)⟩) (fun p hp _ => miv_wN_ne (M := sI M W) (Nat.ne_of_lt hp)) (fun j _ => by rw [miv_wN_ne (M := sI M W) (show a ≠ mhn (sI M W) from by show a ≠ mhn M; omega)]; rfl) ha
theorem TXE.torn (hl : LST M W (a + 1)) (ha : a + 1 < mhn M) {k : Int} : TXE a M W (tornH (sI M W) k) :=
  TXE.cells hl (Nat.le_succ _) (Nat.le_add_right _ _) (fun p hp => ⟨(tornH_sh (M := sI M W) (k := k) (Nat.ne_of_lt hp)).1, (tornH_sh (M := sI M W) (k := k) (Nat.ne_of_lt hp)).2.1⟩) (fun p hp _ => (tornH_sh (M := sI M W) (k := k) (Nat.ne_of_lt hp)).2.2) (fun j _ => by rw [(tornH_sh (M := sI M W) (k := k) (show a ≠ mhn (sI M W) from by show a ≠ mhn M; omega)).2.2]; rfl) ha
/-- the list is emptied -/
theorem TXE.clr {n : Nat} (hl : LST M W (a + 1)) (hn : W (a + 1) 2 = n) (ha : a + 1 < mhn M) (h100 : a < 100) : TXE a M W (sI (sR M (clrR (mrv M) (le M (a + 1)) n)) (u2 (u2 W (a + 1) 0 (W (a + 1) 0 + 1)) (a + 1) 2 0)) := by
  have r0 : ∀ p, p ≠ le M (a + 1) ∨ n = 0 → clrR (mrv M) (le M (a + 1)) n p = mrv M p := fun p hp => by funext j; unfold clrR; rw [if_neg (by omega)]
  have r1 : clrR (mrv M) (le M (a + 1)) n (a + 1) = mrv M (a + 1) := r0 _ (by
    rcases hl.2.1 with ⟨z1, z2⟩ | ⟨z1, z2, z3⟩
    · exact Or.inr (by omega)
    · exact Or.inl (by omega))
  refine ⟨Nat.le_refl _, Nat.le_refl _, fun _ _ => rfl, fun p _ _ n2 => r0 p (Or.inl n2), fun k _ => ?_, fun p _ _ n2 => ?_, fun j _ => ?_, ?_, Or.inl ?_⟩
  · show clrR (mrv M) (le M (a + 1)) n (a + 1) k = _
    rw [r1]
  · show u2 (u2 W (a + 1) 0 _) (a + 1) 2 0 p = W p
    rw [u2_ne n2, u2_ne n2]
  · show u2 (u2 W (a + 1) 0 _) (a + 1) 2 0 a j = W a j
    rw [u2_ne (by omega), u2_ne (by omega)]
  · have e1 : le (sI (sR M (clrR (mrv M) (le M (a + 1)) n)) (u2 (u2 W (a + 1) 0 (W (a + 1) 0 + 1)) (a + 1) 2 0)) (a + 1) = le M (a + 1) := by
      show (clrR (mrv M) (le M (a + 1)) n (a + 1) 1).getD 0 = _
      rw [r1]; rfl
    unfold LST
    rw [e1]
    refine ⟨?_, ?_, ?_⟩
    · show clrR (mrv M) (le M (a + 1)) n (a + 1) 1 = _
      rw [r1]; exact hl.1
    · rcases hl.2.1 with ⟨z1, z2⟩ | z
      · exact Or.inl ⟨z1, u2_at⟩
      · exact Or.inr z
    · show 0 ≤ u2 (u2 W (a + 1) 0 _) (a + 1) 2 0 (a + 1) 2 ∧ u2 (u2 W (a + 1) 0 _) (a + 1) 2 0 (a + 1) 2 ≤ 8
      rw [u2_at]
      decide
  · show (clrR (mrv M) (le M (a + 1)) n (a + 1) 1).getD 0 = _
    rw [r1]; rfl
/-- one more on the list -/
theorem AddP.txe {n q : Nat} (h : AddP M W (a + 1) n q M') (hl : LST M W (a + 1)) (ha : a + 1 < mhn M) (hn : n < 8) (hm : 122 ≤ mhn M) : TXE a M W M' := by
  obtain ⟨e', h1, h2, h3, h4, h5, h6, h7, h8, h9, h10⟩ := h
  have el : le M' (a + 1) = e' := by unfold le; rw [h2]; rfl
  have ge : 122 ≤ e' ∧ e' < mhn M' := by
    rcases h1 with ⟨z1, z2, z3, z4⟩ | ⟨z1, z2, z3, z4⟩
    · rcases hl.2.1 with y | y
      · exact absurd y.1 z2
      · omega
    · omega
  refine ⟨?_, ?_, fun p hp => h7 p (by omega), fun p hp n1 n2 => h6 p n1 ?_ (by omega), h3, fun p hp _ n2 => h9 p n2 (by omega), fun j _ => by rw [h9 a (by omega) (by omega)], ⟨by rw [h2, el], Or.inr ⟨by rw [el]; exact ge.1, by rw [el]; exact ge.2, by rw [el]; exact h8⟩, by rw [h10]; omega, by rw [h10]; omega⟩, ?_⟩
  · rcases h1 with ⟨z1, z2, z3, z4⟩ | ⟨z1, z2, z3, z4⟩ <;> omega
  · rcases h1 with ⟨z1, z2, z3, z4⟩ | ⟨z1, z2, z3, z4⟩ <;> omega
  · rcases h1 with ⟨z1, z2, z3, z4⟩ | ⟨z1, z2, z3, z4⟩
    · rw [z1]; exact n2
    · omega
  · rw [el]
    rcases h1 with ⟨z1, z2, z3, z4⟩ | ⟨z1, z2, z3, z4⟩
    · exact Or.inl z1
    · exact Or.inr (by omega)
theorem AddP.lc {n q : Nat} {kd : Nat × Nat} (h : AddP M W a n q M') (hc : LC M W a kd n) (hq : 122 ≤ q ∧ q < mhn M ∧ msh M q = kd) : LC M' (miv M') a kd (n + 1) ∧ (∀ k, k < n → el M' a k = el M a k) ∧ el M' a n = q ∧ mhn M' ≤ mhn M + 1 ∧ (le M a ≠ 0 → mhn M' = mhn M ∧ mhs M' = mhs M) ∧ mhs M' ≤ mhs M + 10 ∧ le M' a ≠ 0 ∧ ∀ p, p ≠ a → p < mhn M → miv M' p = W p := by
  obtain ⟨e', h1, h2, h3, h4, h5, h6, h7, h8, h9, h10⟩ := h
  have l0 : le M' a = e' := by unfold le; rw [h2]; rfl
  have k0 : ∀ k, k < n → el M' a k = el M a k := fun k hk => by unfold el; rw [l0, h4 k hk]
  have k1 : el M' a n = q := by unfold el; rw [l0, h5]; rfl
  have mm : mhn M ≤ mhn M' := by rcases h1 with ⟨z1, z2, z3, z4⟩ | ⟨z1, z2, z3, z4⟩ <;> omega
  refine ⟨⟨by rw [h10]; omega, fun k hk => ?_⟩, k0, k1, ?_, ?_, ?_, ?_, fun p n1 hp => h9 p n1 (by omega)⟩
  · by_cases e : k = n
    · subst e
      rw [k1, l0]
      exact ⟨h5, hq.1, by omega, by rw [h7 q (by omega)]; exact hq.2.2⟩
    · obtain ⟨b1, b2, b3, b4⟩ := hc.2 k (by omega)
      rw [k0 k (by omega), l0, h4 k (by omega)]
      exact ⟨b1, b2, by omega, by rw [h7 _ (by omega)]; exact b4⟩
  · rcases h1 with ⟨z1, z2, z3, z4⟩ | ⟨z1, z2, z3, z4⟩ <;> omega
  · intro z
    rcases h1 with ⟨z1, z2, z3, z4⟩ | ⟨z1, z2, z3, z4⟩
    · exact ⟨z3, z4⟩
    · exact absurd z2 z
  · rcases h1 with ⟨z1, z2, z3, z4⟩ | ⟨z1, z2, z3, z4⟩ <;> omega
  · rw [l0]
    rcases h1 with ⟨z1, z2, z3, z4⟩ | ⟨z1, z2, z3, z4⟩
    · rw [z1]; exact z2
    · omega
end
