/-! ROWS: new cells, stores of references, casts, statics, call sites -/
theorem mrv_wN_ne {M : MH} {k n q : Nat} (h : q ≠ mhn M) : mrv (wN M k n) q = mrv M q := by
  funext j; simp [mrv, wN, h]
theorem miv_wN_ne {M : MH} {k n q : Nat} (h : q ≠ mhn M) : miv (wN M k n) q = miv M q := by
  funext j; simp [miv, wN, h]
theorem msh_wN_ne {M : MH} {k n q : Nat} (h : q ≠ mhn M) : msh (wN M k n) q = msh M q := by
  simp [msh, wN, h]
theorem msh_wN {M : MH} {k n : Nat} : msh (wN M k n) (mhn M) = (k, n) := by simp [msh, wN]
theorem rho_new {G : GH} {M : MH} {H : Heap} (h : Rel G M H) : rho G (mhn M) = H.size := by
  obtain ⟨⟨a1, -, -, a4⟩, -⟩ := h
  rw [rho_ge a1]; omega
/-- new: a class by its number -/
theorem mw_new {Y : MD} {d pc nx : Nat} {L S : List MV} {M : MH} {Q : Out → MH → Prop} {ci idx : Nat} {r : vw_C} (h : Dk Y pc (.new idx) 3 nx) (hc : mcl[ci]? = some r) (hl : Cond.classLink (my Y).cls idx r.1 ∈ lw_all) (hi : Cond.instantiable r.1 r.2.2 ∈ lw_all) (hin : Cond.initialized r.1 ∈ lw_all) (hcap : mhn M + 1 ≤ mNC) (hcas : mhs M + r.2.2 ≤ mNS)
    (k : MW Y d nx L (vp (mhn M) :: S) (wN M ci r.2.2) Q) : MW Y d pc L S M Q := by
  intro G M0 p l e R s m args below meth c H locs ls C
  obtain ⟨hd, rfl⟩ := h
  obtain ⟨hcx, hR, hlv, hlo, hm1, hm2⟩ := C
  have hcx' := hcx
  obtain ⟨hexec, hb, -, -, hown, hts, -, -, hK, ⟨-, -, r3, r4⟩, -⟩ := hcx'
  have hKn := hK.1.1 ci _ hc
  have hlt : ci < 11 := (List.getElem?_eq_some_iff.mp hc).1
  refine W.newcK hexec hb hown (hts _ hl) (hts _ hi) (hts _ hin) rfl hd (by omega) (by omega) hKn.2.1 rfl fun H1 kC hkC e1 z1 o1 => ?_
  have hob := u_born (mty ci) hts (mcl_in ci r hc) hKn hkC e1 (mcl_ty ci r hc)
  have hR' : Rel G (wN M ci r.2.2) H1 := hR.push hcap hcas z1 o1 (CellOK.ofObj hc (by rw [msh_wN]) (by
    rw [rho_new hR]
    refine t_OB.to hob (fun j hj => ?_)
    unfold mfv
    have e2 : mrv (wN M ci r.2.2) (mhn M) j = none := by simp [mrv, wN]
    have e3 : miv (wN M ci r.2.2) (mhn M) j = 0 := by simp [miv, wN]
    rw [e2, e3]
    have hcases : ∀ ci k, k < 33 → defaultValue (mty ci k) = (if (mty ci k).isReference = true then va_rf (Option.map (rho G) none) else Value.int (Int32.ofInt 0)) := by
      intro ci k hk
      have e4 : va_rf (Option.map (rho G) none) = .null := rfl
      rw [e4]
      have : ∀ t : FieldType, t = .int ∨ t = .boolean ∨ t.isReference = true → defaultValue t = (if t.isReference = true then Value.null else Value.int (Int32.ofInt 0)) := by
        intro t ht
        rcases ht with rfl | rfl | ht
        · rfl
        · rfl
        · cases t <;> first | rfl | (cases ht)
      refine this _ ?_
      have hall : ∀ ci : Fin 11, ∀ k : Fin 33, mty ci.val k.val = .int ∨ mty ci.val k.val = .boolean ∨ (mty ci.val k.val).isReference = true := by decide +kernel
      by_cases hci : ci < 11
      · exact hall ⟨ci, hci⟩ ⟨k, hk⟩
      · have : mty ci = mty 10 := by
          rcases ci with _ | _ | _ | _ | _ | _ | _ | _ | _ | _ | ci
          all_goals first | omega | rfl
        rw [this]
        exact hall ⟨10, by decide⟩ ⟨k, hk⟩
    have hN : ∀ (ci : Nat) (r : vw_C), mcl[ci]? = some r → r.2.2 ≤ 33 := by
      intro ci r h
      rcases ci with _ | _ | _ | _ | _ | _ | _ | _ | _ | _ | _ | ci
      all_goals first | (cases h; decide) | (simp at h)
    exact hcases ci j (Nat.lt_of_lt_of_le hj (hN ci r hc))))
  have K := k G M0 p l e R s m args below meth c H1 locs ls ⟨hcx, hR', hlv, hlo, by show mhn M0 ≤ mhn M + 1; omega, by show mhs M0 ≤ mhs M + r.2.2; omega⟩
  have e5 : mhn (wN M ci r.2.2) - mhn M0 = mhn M - mhn M0 + 1 := by show mhn M + 1 - mhn M0 = _; omega
  have e6 : mhs (wN M ci r.2.2) - mhs M0 = mhs M - mhs M0 + r.2.2 := by show mhs M + r.2.2 - mhs M0 = _; omega
  rw [e5, e6] at K
  have e7 : rl G (vp (mhn M)) = .ref H.size := by show Value.ref (rho G (mhn M)) = _; rw [rho_new hR]
  have K2 : W p l e R s m args below meth c H1 locs (mhn M - mhn M0 + 1) (mhs M - mhs M0 + r.2.2) (FinE G s below M0 Q) (F0 m (pc + 3) ls (rl G (vp (mhn M)) :: S.map (rl G))) := K
  rw [e7] at K2
  exact K2
def atk (t : ArrayType) : Nat := match newarray.typeOf t with
  | .int => 0
  | .boolean => 1
  | .byte => 2
  | .short => 3
  | _ => 9
/-- newarray of ints, booleans, bytes, shorts -/
theorem mw_newarr {Y : MD} {d pc nx : Nat} {L S : List MV} {M : MH} {Q : Out → MH → Prop} {t : ArrayType} {ak n : Nat} {i : Int} (h : Dk Y pc (.newarray t) 2 nx) (ht : newarray.typeOf t = maT ak) (h4 : ak < 4) (hw : Cond.arrayClass (maT ak) ∈ lw_all) (hi : i = (n : Int)) (hn : n ≤ 100000) (hcap : mhn M + 1 ≤ mNC) (hcas : mhs M + n ≤ mNS)
    (k : MW Y d nx L (vp (mhn M) :: S) (wN M (100 + ak) n) Q) : MW Y d pc L (vi i :: S) M Q := by
  intro G M0 p l e R s m args below meth c H locs ls C
  obtain ⟨hd, rfl⟩ := h
  obtain ⟨hcx, hR, hlv, hlo, hm1, hm2⟩ := C
  have hcx' := hcx
  obtain ⟨hexec, hb, -, -, hown, hts, -, -, hK, ⟨-, -, r3, r4⟩, -⟩ := hcx'
  subst hi
  have hbytes : n * componentBytes (newarray.typeOf t) ≤ 536870912 := by
    have : componentBytes (newarray.typeOf t) ≤ 8 := by cases t <;> decide
    calc n * componentBytes (newarray.typeOf t) ≤ n * 8 := Nat.mul_le_mul_left _ this
      _ ≤ 536870912 := by omega
  refine va_newaK (N := n) hexec hb (by rw [ht]; exact hts _ hw) rfl hd rfl (by rw [i32_0, i32_lt (by omega) (by omega)]; omega) (by rw [i32_clamp (by omega)]; omega) hbytes (by omega) (by omega) rfl fun H1 cA e1 z1 o1 hAr hNm => ?_
  have hcA : cA = gaC G ak := by
    have h2 := (hK.arr ak (by omega)).2
    rw [ht] at hNm
    rcases ak with _ | _ | _ | _ | ak
    · exact Option.some.inj (hNm.symm.trans h2)
    · exact Option.some.inj (hNm.symm.trans h2)
    · exact Option.some.inj (hNm.symm.trans h2)
    · exact Option.some.inj (hNm.symm.trans h2)
    · omega
  subst hcA
  have hR' : Rel G (wN M (100 + ak) n) H1 := hR.push hcap hcas z1 o1 (CellOK.ofArr (by omega) msh_wN (by
    rw [rho_new hR, e1]
    congr 2
    funext j
    rw [mav_i h4]
    have e3 : miv (wN M (100 + ak) n) (mhn M) j = 0 := by simp [miv, wN]
    rw [e3, ht]
    rcases ak with _ | _ | _ | _ | ak
    · rfl
    · rfl
    · rfl
    · rfl
    · omega))
  have K := k G M0 p l e R s m args below meth c H1 locs ls ⟨hcx, hR', hlv, hlo, by show mhn M0 ≤ mhn M + 1; omega, by show mhs M0 ≤ mhs M + n; omega⟩
  have e5 : mhn (wN M (100 + ak) n) - mhn M0 = mhn M - mhn M0 + 1 := by show mhn M + 1 - mhn M0 = _; omega
  have e6 : mhs (wN M (100 + ak) n) - mhs M0 = mhs M - mhs M0 + n := by show mhs M + n - mhs M0 = _; omega
  rw [e5, e6] at K
  have e7 : rl G (vp (mhn M)) = .ref H.size := by show Value.ref (rho G (mhn M)) = _; rw [rho_new hR]
  have K2 : W p l e R s m args below meth c H1 locs (mhn M - mhn M0 + 1) (mhs M - mhs M0 + n) (FinE G s below M0 Q) (F0 m (pc + 2) ls (rl G (vp (mhn M)) :: S.map (rl G))) := K
  rw [e7] at K2
  exact K2
/-- anewarray over a class: Object or Sheet -/
theorem mw_anew {Y : MD} {d pc nx : Nat} {L S : List MV} {M : MH} {Q : Out → MH → Prop} {idx ak n : Nat} {E : String} {i : Int} (h : Dk Y pc (.anewarray idx) 3 nx) (hak : (ak = 4 ∧ E = "java/lang/Object") ∨ (ak = 6 ∧ E = "SoldWithIt$Sheet")) (hl : Cond.classLink (my Y).cls idx E ∈ lw_all) (hi : i = (n : Int)) (hn : n ≤ 100000) (hcap : mhn M + 1 ≤ mNC) (hcas : mhs M + n ≤ mNS)
    (k : MW Y d nx L (vp (mhn M) :: S) (wN M (100 + ak) n) Q) : MW Y d pc L (vi i :: S) M Q := by
  intro G M0 p l e R s m args below meth c H locs ls C
  obtain ⟨hd, rfl⟩ := h
  obtain ⟨hcx, hR, hlv, hlo, hm1, hm2⟩ := C
  have hcx' := hcx
  obtain ⟨hexec, hb, -, -, hown, hts, -, -, hK, ⟨-, -, r3, r4⟩, -⟩ := hcx'
  subst hi
  have hov : va_AO E s := by
    rcases hak with ⟨-, rfl⟩ | ⟨-, rfl⟩
    · exact hK.2.2.1
    · exact hK.2.2.2.1
  have hcl : (Int32.ofInt (n : Int)).toNatClampNeg = n := by rw [i32_clamp (by omega)]; omega
  refine W.anew hexec hb hown (hts _ hl) (va_AO.use hov) rfl hd rfl (by rw [i32_0, i32_lt (by omega) (by omega)]; omega) (by rw [hcl]; omega) (by omega) (by rw [hcl]; omega) fun cA kA comp f1 f2 f3 f4 => ?_
  rw [hcl]
  have hcA : cA = gaC G ak := by
    rcases hak with ⟨rfl, rfl⟩ | ⟨rfl, rfl⟩
    · obtain ⟨kA', comp', -, -, -, h2⟩ := (hK.arr 4 (by decide)).2
      exact Option.some.inj (f1.symm.trans h2)
    · obtain ⟨kA', comp', -, -, -, h2⟩ := (hK.arr 6 (by decide)).2
      exact Option.some.inj (f1.symm.trans h2)
  subst hcA
  generalize hH1 : H.push ({ cls := gaC G ak, slots := Array.replicate n .null, vm := .none } : Cell) = H1
  have z1 : H1.size = H.size + 1 := by rw [← hH1, Array.size_push]
  have e1 : H1[H.size]? = some (arrV (gaC G ak) n (fun _ => .null)) := by rw [← hH1, Array.getElem?_push_size, ← arrV_new]
  have o1 : ∀ q : Nat, q < H.size → H1[q]? = H[q]? := fun q hq => by rw [← hH1, Array.getElem?_push, if_neg (Nat.ne_of_lt hq)]
  have h4 : 4 ≤ ak ∧ ak ≤ 6 := by omega
  have hR' : Rel G (wN M (100 + ak) n) H1 := hR.push hcap hcas z1 o1 (CellOK.ofArr h4.2 msh_wN (by
    rw [rho_new hR, e1]
    congr 2
    funext j
    rw [mav_r h4.1]
    have e3 : mrv (wN M (100 + ak) n) (mhn M) j = none := by simp [mrv, wN]
    rw [e3]
    rfl))
  have K := k G M0 p l e R s m args below meth c H1 locs ls ⟨hcx, hR', hlv, hlo, by show mhn M0 ≤ mhn M + 1; omega, by show mhs M0 ≤ mhs M + n; omega⟩
  have e5 : mhn (wN M (100 + ak) n) - mhn M0 = mhn M - mhn M0 + 1 := by show mhn M + 1 - mhn M0 = _; omega
  have e6 : mhs (wN M (100 + ak) n) - mhs M0 = mhs M - mhs M0 + n := by show mhs M + n - mhs M0 = _; omega
  rw [e5, e6] at K
  have e7 : rl G (vp (mhn M)) = .ref H.size := by show Value.ref (rho G (mhn M)) = _; rw [rho_new hR]
  have K2 : W p l e R s m args below meth c H1 locs (mhn M - mhn M0 + 1) (mhs M - mhs M0 + n) (FinE G s below M0 Q) (F0 m (pc + 3) ls (rl G (vp (mhn M)) :: S.map (rl G))) := K
  rw [e7] at K2
  exact K2
/-! the class of a place -/
def arN (ak : Nat) : String := match ak with
  | 0 => "[I"
  | 1 => "[Z"
  | 2 => "[B"
  | 3 => "[S"
  | 4 => "[Ljava/lang/Object;"
  | 5 => "[[I"
  | _ => "[LSoldWithIt$Sheet;"
def ClsOf (M : MH) (q : Nat) (C : String) : Prop := (∃ r : vw_C, mcl[(msh M q).1]? = some r ∧ r.1 = C) ∨ ∃ ak n : Nat, msh M q = (100 + ak, n) ∧ arN ak = C
theorem KN.arN {G : GH} {s : State} (h : KN G s) : ∀ ak, ak ≤ 6 → s.vm.findClass (arN ak) = some (gaC G ak)
  | 0, _ => by
    have e : "[" ++ FieldType.int.toString = "[I" := by decide +kernel
    have h2 : s.vm.findClass ("[" ++ FieldType.int.toString) = some (gaC G 0) := (h.arr 0 (by decide)).2
    rw [e] at h2
    exact h2
  | 1, _ => by
    have e : "[" ++ FieldType.boolean.toString = "[Z" := by decide +kernel
    have h2 : s.vm.findClass ("[" ++ FieldType.boolean.toString) = some (gaC G 1) := (h.arr 1 (by decide)).2
    rw [e] at h2
    exact h2
  | 2, _ => by
    have e : "[" ++ FieldType.byte.toString = "[B" := by decide +kernel
    have h2 : s.vm.findClass ("[" ++ FieldType.byte.toString) = some (gaC G 2) := (h.arr 2 (by decide)).2
    rw [e] at h2
    exact h2
  | 3, _ => by
    have e : "[" ++ FieldType.short.toString = "[S" := by decide +kernel
    have h2 : s.vm.findClass ("[" ++ FieldType.short.toString) = some (gaC G 3) := (h.arr 3 (by decide)).2
    rw [e] at h2
    exact h2
  | 4, _ => by
    have e : "[" ++ (FieldType.object "java/lang/Object").toString = "[Ljava/lang/Object;" := by decide +kernel
    obtain ⟨_, _, -, -, -, h2⟩ := (h.arr 4 (by decide)).2
    have h2 : s.vm.findClass ("[" ++ (FieldType.object "java/lang/Object").toString) = some (gaC G 4) := h2
    rw [e] at h2
    exact h2
  | 5, _ => by
    have e : "[" ++ (FieldType.array .int).toString = "[[I" := by decide +kernel
    have h2 : s.vm.findClass ("[" ++ (FieldType.array .int).toString) = some (gaC G 5) := (h.arr 5 (by decide)).2
    rw [e] at h2
    exact h2
  | 6, _ => by
    have e : "[" ++ (FieldType.object "SoldWithIt$Sheet").toString = "[LSoldWithIt$Sheet;" := by decide +kernel
    obtain ⟨_, _, -, -, -, h2⟩ := (h.arr 6 (by decide)).2
    have h2 : s.vm.findClass ("[" ++ (FieldType.object "SoldWithIt$Sheet").toString) = some (gaC G 6) := h2
    rw [e] at h2
    exact h2
  | n + 7, hn => absurd hn (by omega)
theorem ClsOf.cell {G : GH} {M : MH} {H : Heap} {s : State} {q : Nat} {C : String} (h : ClsOf M q C) (hR : Rel G M H) (hK : KN G s) : ∃ cell : Cell, H[rho G q]? = some cell ∧ cell.vm.isStatics = false ∧ s.vm.findClass C = some cell.cls := by
  rcases h with ⟨r, hc, rfl⟩ | ⟨ak, n, hs, rfl⟩
  · obtain ⟨cell, q1, q2, q3, -⟩ := hR.obj hc rfl
    exact ⟨cell, q1, by rw [q3]; rfl, by rw [q2]; exact (hK.1.1 _ _ hc).2.1⟩
  · obtain ⟨h6, hcell⟩ := hR.arr hs
    exact ⟨_, hcell, rfl, hK.arN ak h6⟩
theorem mw_castN {Y : MD} {d pc nx : Nat} {L S : List MV} {M : MH} {Q : Out → MH → Prop} {idx : Nat} (h : Dk Y pc (.checkcast idx) 3 nx) (k : MW Y d nx L (vr none :: S) M Q) : MW Y d pc L (vr none :: S) M Q := by
  intro G M0 p l e R s m args below meth c H locs ls C
  obtain ⟨hd, rfl⟩ := h
  exact lv_castN C.1.1 C.1.2.1 hd (k G M0 p l e R s m args below meth c H locs ls C)
/-- checkcast to the very class of an object, or of an array -/
theorem mw_castS {Y : MD} {d pc nx : Nat} {L S : List MV} {M : MH} {Q : Out → MH → Prop} {idx q : Nat} {C0 : String} (h : Dk Y pc (.checkcast idx) 3 nx) (hl : Cond.classLink (my Y).cls idx C0 ∈ lw_all) (hC : ClsOf M q C0) (k : MW Y d nx L (vp q :: S) M Q) : MW Y d pc L (vp q :: S) M Q := by
  intro G M0 p l e R s m args below meth c H locs ls C T hT X
  obtain ⟨hd, rfl⟩ := h
  have K := k G M0 p l e R s m args below meth c H locs ls C
  obtain ⟨hexec, hb, -, -, hown, hts, -, -, hK, -⟩ := C.1
  obtain ⟨cell, h1, h2, h3⟩ := hC.cell C.2.1 hK
  have hasg : s.vm.assignable cell.cls cell.cls = true := by
    rcases hC with ⟨r, hc, rfl⟩ | ⟨ak, n, hs, rfl⟩
    · have hcl := (hK.1.1 _ _ hc).2
      have e1 : _ = cell.cls := Option.some.inj (hcl.1.symm.trans h3)
      rw [← e1]
      exact va_assign hcl
    · exact va_asg _ _
  obtain ⟨vm', X', st⟩ := X.checkcastYes hexec hown (hts _ hl) (by rw [hT]; exact h1) h2 h3 hasg (g := F0 m pc ls (.ref (rho G q) :: S.map (rl G))) rfl rfl (by rw [hb]; exact hd)
  obtain ⟨t, a1, b1⟩ := K (T.setVm vm') hT X'
  exact ⟨t, st t a1, b1⟩
theorem mw_instN {Y : MD} {d pc nx : Nat} {L S : List MV} {M : MH} {Q : Out → MH → Prop} {idx : Nat} (h : Dk Y pc (.instanceof idx) 3 nx) (k : MW Y d nx L (vi 0 :: S) M Q) : MW Y d pc L (vr none :: S) M Q := by
  intro G M0 p l e R s m args below meth c H locs ls C
  obtain ⟨hd, rfl⟩ := h
  exact lv_instN C.1.1 C.1.2.1 hd (k G M0 p l e R s m args below meth c H locs ls C)
theorem mw_instS {Y : MD} {d pc nx : Nat} {L S : List MV} {M : MH} {Q : Out → MH → Prop} {idx q : Nat} {C0 : String} (h : Dk Y pc (.instanceof idx) 3 nx) (hl : Cond.classLink (my Y).cls idx C0 ∈ lw_all) (hC : ClsOf M q C0) (k : MW Y d nx L (vi 1 :: S) M Q) : MW Y d pc L (vp q :: S) M Q := by
  intro G M0 p l e R s m args below meth c H locs ls C T hT X
  obtain ⟨hd, rfl⟩ := h
  have K := k G M0 p l e R s m args below meth c H locs ls C
  obtain ⟨hexec, hb, -, -, hown, hts, -, -, hK, -⟩ := C.1
  obtain ⟨cell, h1, h2, h3⟩ := hC.cell C.2.1 hK
  have hasg : s.vm.assignable cell.cls cell.cls = true := by
    rcases hC with ⟨r, hc, rfl⟩ | ⟨ak, n, hs, rfl⟩
    · have hcl := (hK.1.1 _ _ hc).2
      have e1 : _ = cell.cls := Option.some.inj (hcl.1.symm.trans h3)
      rw [← e1]
      exact va_assign hcl
    · exact va_asg _ _
  obtain ⟨vm', X', st⟩ := X.instanceofYes hexec hown (hts _ hl) (by rw [hT]; exact h1) h2 h3 hasg (g := F0 m pc ls (.ref (rho G q) :: S.map (rl G))) rfl rfl (by rw [hb]; exact hd)
  obtain ⟨t, a1, b1⟩ := K (T.setVm vm') hT X'
  exact ⟨t, st t a1, b1⟩
/-- an array's store of an object into Object[] or Sheet[] -/
theorem mw_aastore {Y : MD} {d pc nx : Nat} {L S : List MV} {M : MH} {Q : Out → MH → Prop} {a n ak q : Nat} {i : Int} {C0 : String} (h : Dk Y pc .aastore 1 nx) (hs : msh M a = (100 + ak, n)) (hak : ak = 4 ∨ ak = 6) (hn : n ≤ 2147483647) (hi : 0 ≤ i ∧ i < n) (hC : ClsOf M q C0) (hcs : (ak = 4 ∧ Cond.castable C0 "java/lang/Object" ∈ lw_big) ∨ (ak = 6 ∧ C0 = "SoldWithIt$Sheet" ∧ (msh M q).1 = 8))
    (kk : MW Y d nx L S (wR M a i.toNat (some q)) Q) : MW Y d pc L (vp q :: vi i :: vp a :: S) M Q := by
  intro G M0 p l e R s m args below meth c H locs ls C
  obtain ⟨hd, rfl⟩ := h
  obtain ⟨hcx, hR, hl, hlo, hm1, hm2⟩ := C
  have hcx' := hcx
  obtain ⟨hexec, hb, -, -, hown, hts, -, -, hK, -⟩ := hcx'
  obtain ⟨cv, h1, h2, h3⟩ := hC.cell hR hK
  obtain ⟨h6, hcell⟩ := hR.arr hs
  have hp2 : 2 ≤ a := hR.ge (by rw [hs]; show 100 + ak < 97 ∨ 99 < 100 + ak; omega)
  obtain ⟨kv, hkv, -⟩ := Vm.findClass_spec h3
  obtain ⟨kA, comp, t, k1, k2, k3, ⟨kc, k4⟩, k5⟩ : ∃ (kA : Class) (comp : ClassId) (t : FieldType), s.vm.classes[gaC G ak]? = some kA ∧ kA.kind = .array comp t ∧ t.isReference = true ∧ (∃ kc, s.vm.classes[comp]? = some kc) ∧ s.vm.assignable cv.cls comp = true := by
    rcases hcs with ⟨rfl, hw⟩ | ⟨rfl, rfl, hw⟩
    · obtain ⟨kA, comp, k1, k2, k3, -⟩ := (hK.arr 4 (by decide)).2
      obtain ⟨c0, t0, f1, f2, f3⟩ := Cond.castable_spec (va_Nw.use (A := args) rfl (hK.2.1 _ hw))
      cases h3.symm.trans f1
      cases k3.symm.trans f2
      obtain ⟨kc, hkc, -⟩ := Vm.findClass_spec k3
      exact ⟨kA, _, _, k1, k2, rfl, ⟨kc, hkc⟩, f3⟩
    · obtain ⟨kA, comp, k1, k2, k3, -⟩ := (hK.arr 6 (by decide)).2
      cases h3.symm.trans k3
      obtain ⟨kc, hkc, -⟩ := Vm.findClass_spec k3
      have hcl := (hK.1.1 8 _ rfl).2
      have e1 : _ = cv.cls := Option.some.inj (hcl.1.symm.trans h3)
      exact ⟨kA, _, _, k1, k2, rfl, ⟨kc, hkc⟩, by rw [← e1]; exact va_assign hcl⟩
  refine W.aast hexec hb hcell (fun q h => by cases h) (fun h => by cases h) k1 k2 k3 k4 ⟨by rw [i32_0, i32_lt (by omega) (by omega)]; omega, by rw [arrV_size, i32_clamp (by omega)]; omega⟩ h1 (VmData.ne_statics_of h2) hkv k5 rfl rfl hd fun H' g1 g2 g3 => ?_
  have hR' : Rel G (wR M a i.toNat (some q)) H' := hR.put hp2 rfl rfl rfl (fun q _ => rfl) (fun q hq => u2_ne hq) g2 g3 (CellOK.ofArr h6 hs (by
    rw [g1, i32_clamp (by omega), arrV_store]
    congr 2
    funext j
    rw [mav_r (by omega)]
    show _ = rl G (vr (u2 (mrv M) a i.toNat (some q) a j))
    unfold updV u2
    by_cases e : j = i.toNat
    · rw [if_pos e, if_pos ⟨rfl, e⟩]; rfl
    · rw [if_neg e, if_neg (fun q => e q.2), mav_r (by omega)]))
  exact kk G M0 p l e R s m args below meth c H' (locs ++ [⟨rho G a, (Int32.ofInt i).toNatClampNeg⟩]) ls ⟨hcx, hR', hl, fun q hq => by
      rcases List.mem_append.mp hq with h | h
      · exact hlo q h
      · rw [List.mem_singleton.mp h]
        show gb0 G ≤ rho G a
        rw [rho_ge hp2]; omega, hm1, hm2⟩
/-- a store of null into Object[] -/
theorem mw_aastoreN {Y : MD} {d pc nx : Nat} {L S : List MV} {M : MH} {Q : Out → MH → Prop} {a n : Nat} {i : Int} (h : Dk Y pc .aastore 1 nx) (hs : msh M a = (104, n)) (hn : n ≤ 2147483647) (hi : 0 ≤ i ∧ i < n)
    (kk : MW Y d nx L S (wR M a i.toNat none) Q) : MW Y d pc L (vr none :: vi i :: vp a :: S) M Q := by
  intro G M0 p l e R s m args below meth c H locs ls C
  obtain ⟨hd, rfl⟩ := h
  obtain ⟨hcx, hR, hl, hlo, hm1, hm2⟩ := C
  have hcx' := hcx
  obtain ⟨hexec, hb, -, -, hown, hts, -, -, hK, -⟩ := hcx'
  obtain ⟨h6, hcell⟩ := hR.arr (ak := 4) hs
  have hp2 : 2 ≤ a := hR.ge (by rw [hs]; exact Or.inr (by decide : 99 < 104))
  refine va_WaastN (C := "java/lang/Object") hexec hb hcell ((hK.arr 4 (by decide)).1 n _) (fun h => by cases h) (by rw [arrV_size]; exact i32_in hi.1 hi.2 hn) rfl rfl hd fun H' g1 g2 g3 => ?_
  have hR' : Rel G (wR M a i.toNat none) H' := hR.put hp2 rfl rfl rfl (fun q _ => rfl) (fun q hq => u2_ne hq) g2 g3 (CellOK.ofArr (ak := 4) h6 hs (by
    rw [g1, i32_clamp (by omega), arrV_store]
    congr 2
    funext j
    rw [mav_r (by omega)]
    show _ = rl G (vr (u2 (mrv M) a i.toNat none a j))
    unfold updV u2
    by_cases e : j = i.toNat
    · rw [if_pos e, if_pos ⟨rfl, e⟩]; rfl
    · rw [if_neg e, if_neg (fun q => e q.2), mav_r (by omega)]))
  exact kk G M0 p l e R s m args below meth c H' (locs ++ [⟨rho G a, (Int32.ofInt i).toNatClampNeg⟩]) ls ⟨hcx, hR', hl, fun q hq => by
      rcases List.mem_append.mp hq with h | h
      · exact hlo q h
      · rw [List.mem_singleton.mp h]
        show gb0 G ≤ rho G a
        rw [rho_ge hp2]; omega, hm1, hm2⟩
/-- the static that ArrayList begins with -/
theorem mw_gets0 {Y : MD} {d pc nx : Nat} {L S : List MV} {M : MH} {Q : Out → MH → Prop} {idx : Nat} (h : Dk Y pc (.getstatic idx) 3 nx) (hl : Cond.fieldLink (my Y).cls idx "java/util/ArrayList" "DEFAULTCAPACITY_EMPTY_ELEMENTDATA" "[Ljava/lang/Object;" ∈ lw_all) (k : MW Y d nx L (vp 0 :: S) M Q) : MW Y d pc L S M Q := by
  intro G M0 p l e R s m args below meth c H locs ls C
  obtain ⟨hd, rfl⟩ := h
  have K := k G M0 p l e R s m args below meth c H locs ls C
  obtain ⟨hexec, hb, -, -, hown, hts, -, -, hK, -⟩ := C.1
  obtain ⟨cf, kf, fi, f, a, cell, h1, h2, h3, h4, h5, h6, h7, h8⟩ := hK.2.2.2.2.1
  exact W.gets hexec hb hown (hts _ hl) h1 h2 h3 h4 (by rw [C.2.1.2.2.1 a (by omega)]; exact h5) (fun e => by rw [e] at h6; cases h6) h7 rfl hd K
/-- references compared -/
theorem rho_inj {G : GH} {M : MH} {H : Heap} (h : Rel G M H) {p q : Nat} (hp : p ≠ 1) (hq : q ≠ 1) : rho G p = rho G q ↔ p = q := by
  obtain ⟨-, ⟨b1, b2, -⟩, -⟩ := h
  constructor
  · intro e
    unfold rho at e
    rw [if_neg hp, if_neg hq] at e
    by_cases e1 : p = 0
    · by_cases e2 : q = 0
      · omega
      · rw [if_pos e1, if_neg e2] at e; omega
    · by_cases e2 : q = 0
      · rw [if_neg e1, if_pos e2] at e; omega
      · rw [if_neg e1, if_neg e2] at e; omega
  · intro e; rw [e]
theorem mw_acmp_eq {Y : MD} {d pc nx : Nat} {L S : List MV} {M : MH} {Q : Out → MH → Prop} {a b : Nat} {off : Int} {tgt : Nat} (h : Dk Y pc (.if_acmp .eq off) 3 nx) (ht : (pc : Int) + off = (tgt : Int)) (ha : a ≠ 1) (hb : b ≠ 1) (kt : a = b → MW Y d tgt L S M Q) (kf : a ≠ b → MW Y d nx L S M Q) : MW Y d pc L (vp b :: vp a :: S) M Q := by
  intro G M0 p l e R s m args below meth c H locs ls C
  obtain ⟨hd, rfl⟩ := h
  exact lv_acmp_eq (rx := some (rho G a)) (ry := some (rho G b)) C.1.1 C.1.2.1 hd ht (fun q => kt ((rho_inj C.2.1 ha hb).mp (Option.some.inj q)) G M0 p l e R s m args below meth c H locs ls C) (fun q => kf (fun z => q (by rw [z])) G M0 p l e R s m args below meth c H locs ls C)
/-- Object's constructor -/
theorem mw_objInit {Y : MD} {d pc nx : Nat} {L S : List MV} {M : MH} {Q : Out → MH → Prop} {idx a : Nat} (h : Dk Y pc (.invokespecial idx) 3 nx) (hl : Cond.methodLink (my Y).cls idx Lib.objectInit ∈ lw_all) (h1 : Cond.instanceMethod Lib.objectInit ∈ lw_all) (h2 : Cond.code Lib.objectInit ⟨#[0xb1]⟩ 1 none ∈ lw_all) (h8 : (S.map mcat).sum ≤ 8) (k : MW Y (d + 1) nx L S M Q) : MW Y (d + 1) pc L (vp a :: S) M Q := by
  intro G M0 p l e R s m args below meth c H locs ls C
  obtain ⟨hd, rfl⟩ := h
  have K := k G M0 p l e R s m args below meth c H locs ls C
  obtain ⟨hexec, hb, -, hml, hown, hts, -, -, hK, ⟨r1, r2, -⟩, -⟩ := C.1
  have := cat_sum G S
  exact W.objInit hexec hb hown (hts _ hl) (hts _ h1) (hts _ h2) rfl (by rw [hml]; exact C.2.2.1.1) rfl hd (by omega) (by show 2 * 0 + _ + 12 ≤ R.locals; omega) K
/-! the law's script -/
theorem mw_script {Y : MD} {d pc nx : Nat} {L S : List MV} {M : MH} {Q : Out → MH → Prop} {n : Nat} {i : Int} (hlaw : (my Y).cls = "SoldWithItLaw") (h : Dk Y pc .iaload 1 nx) (k : ∀ G : GH, (0 ≤ i ∧ i < gL G ∧ gL G ≤ 2147483647) ∧ MW Y d nx L (vi (gxs G i.toNat).toInt :: S) M Q) : MW Y d pc L (vi i :: vp 1 :: S) M Q := by
  intro G M0 p l e R s m args below meth c H locs ls C
  obtain ⟨hd, rfl⟩ := h
  obtain ⟨⟨i0, i1, i2⟩, k⟩ := k G
  have K := k G M0 p l e R s m args below meth c H locs ls C
  obtain ⟨hexec, hb, -, hml, hown, hts, -, -, hK, -, -, hX⟩ := C.1
  obtain ⟨scr, x1, x2, x3, x4, x5⟩ := hX.1 hlaw
  have e1 : rl G (vi (gxs G i.toNat).toInt) = .int (gxs G i.toNat) := by show Value.int (Int32.ofInt _) = _; rw [Int32.ofInt_toInt]
  have e0 : rho G 1 = gbs G := rfl
  have hbs := C.2.1.2.1.2.1
  refine W.iald (v := .int (gxs G i.toNat)) hexec hb (show H[gbs G]? = some scr by rw [C.2.1.2.2.1 _ hbs]; exact x1) x2 x3 (by rw [x4]; exact i32_in i0 i1 i2) (by rw [i32_clamp (by omega)]; exact x5 _ (by omega)) rfl rfl hd ?_
  rw [← e1]
  exact K
