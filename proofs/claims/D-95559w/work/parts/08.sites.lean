/-! CALL SITES -/
def argN (Y' : MD) (n : Nat) : Prop := (parseMethodDescriptor (my Y').desc).map (fun d => d.parameters.length) = some n
def notMH (C : String) : Prop := C ≠ "java/lang/invoke/MethodHandle" ∧ C ≠ "java/lang/invoke/VarHandle"
/-- the entry idx of Y's class is linked to the method y -/
def LinkM (Y : MD) (idx : Nat) (y : MethodName) : Prop := Cond.methodLink (my Y).cls idx y ∈ lw_all ∨ ∃ host, Cond.methodLinkNest (my Y).cls idx y host ∈ lw_big
theorem args_stack (G : GH) (as S : List MV) : (as.reverse ++ S).map (rl G) = (as.map (rl G)).reverse ++ S.map (rl G) := by
  rw [List.map_append, List.map_reverse]
theorem args_stackV (G : GH) (b : Nat) (as S : List MV) : ((vp b :: as).reverse ++ S).map (rl G) = (as.map (rl G)).reverse ++ .ref (rho G b) :: S.map (rl G) := by
  rw [List.reverse_cons, List.append_assoc, List.map_append, List.map_reverse]
  rfl
theorem argN_len {Y' : MD} {n : Nat} (h : argN Y' n) {sig : MethodDescriptor} (hs : parseMethodDescriptor (my Y').desc = some sig) : n = sig.parameters.length := by
  unfold argN at h
  rw [hs] at h
  exact (Option.some.inj h).symm
theorem site_S {Y Y' : MD} {pc nx idx n : Nat} {as S : List MV} {M : MH} (h : Dk Y pc (.invokestatic idx) 3 nx) (hl : LinkM Y idx (my Y')) (hst : Cond.static (my Y') ∈ lw_all) (hin : Cond.initialized (my Y').cls ∈ lw_all) (hcw : mword Y' ∈ lw_all) (hn : argN Y' n) (hy : notMH (my Y').cls) (hlen : as.length = n) : Site Y pc nx Y' as S M := by
  intro d G M0 p l e R s m args below meth c locs ls T cells slots hcx hR hsz X
  obtain ⟨hd, hnx⟩ := h
  obtain ⟨hexec, hb, -, hml, hown, hts, -, -, hK, -⟩ := hcx
  obtain ⟨mk, methM, cM, hnamed, hmethM, -, -, -, -, -, -, hsigM⟩ := mword_spec (hts _ hcw)
  have hstatic : methM.isStatic = true := Cond.static_spec hnamed hmethM (hts _ hst)
  obtain ⟨kP, hkP, -⟩ := className_of_methodNamed hnamed
  have hinitP : kP.init = .initialized := Cond.initialized_spec (findClass_of_methodNamed hnamed) hkP (hts _ hin)
  have hl1 : (as.map (rl G)).length = methM.sig.parameters.length := by rw [List.length_map, hlen]; exact argN_len hn hsigM
  rcases hl with hl | ⟨host, hl⟩
  · obtain ⟨vm₁, X₁, hstep₁⟩ := X.invokestatic hexec hown (hts _ hl) hnamed hmethM hstatic hkP hinitP hy (g := F0 m pc ls ((as.reverse ++ S).map (rl G))) rfl (argsL := as.map (rl G)) (rest := S.map (rl G)) hl1 (args_stack G as S) (by rw [hb]; exact hd)
    exact ⟨vm₁, mk, _, 3, X₁, hnamed, by rw [hb]; exact hd, hnx, hstep₁⟩
  · obtain ⟨vm₁, X₁, hstep₁⟩ := X.invokestaticNest hexec hown (va_Nw.use rfl (hK.2.1 _ hl)) hnamed hmethM hstatic hkP hinitP hy (g := F0 m pc ls ((as.reverse ++ S).map (rl G))) rfl (argsL := as.map (rl G)) (rest := S.map (rl G)) hl1 (args_stack G as S) (by rw [hb]; exact hd)
    exact ⟨vm₁, mk, _, 3, X₁, hnamed, by rw [hb]; exact hd, hnx, hstep₁⟩
theorem site_V {Y Y' : MD} {pc nx idx b n : Nat} {as S : List MV} {M : MH} {C0 : String} (h : Dk Y pc (.invokevirtual idx) 3 nx) (hl : LinkM Y idx (my Y')) (hinst : Cond.instanceMethod (my Y') ∈ lw_all) (hsel : Cond.selects C0 (my Y') (my Y') ∈ lw_all) (hcw : mword Y' ∈ lw_all) (hn : argN Y' n) (hy : notMH (my Y').cls) (hC : ClsOf M b C0) (hlen : as.length = n) : Site Y pc nx Y' (vp b :: as) S M := by
  intro d G M0 p l e R s m args below meth c locs ls T cells slots hcx hR hsz X
  obtain ⟨hd, hnx⟩ := h
  obtain ⟨hexec, hb, -, hml, hown, hts, -, -, hK, -⟩ := hcx
  obtain ⟨cellB, hcell, hobj, hcls⟩ := hC.cell hR hK
  obtain ⟨mk, methM, hnamed, hmethM, hstM, habM⟩ := Cond.instanceMethod_spec (hts _ hinst)
  obtain ⟨m9, methM', cM, hn9, hmethM', -, -, -, -, -, -, hsigM⟩ := mword_spec (hts _ hcw)
  cases hnamed.symm.trans hn9
  cases hmethM.symm.trans hmethM'
  obtain ⟨c2, r2, m2, q1, q2, q3, q4, kP, hkP, hkPi⟩ := Cond.selects_spec (hts _ hsel)
  cases hcls.symm.trans q1
  cases (State.methodFound?_of_named hnamed hy).symm.trans q2
  cases hnamed.symm.trans q3
  have hselP : selectMethod e.platform s.vm cellB.cls mk = .method mk := by rw [Launch.admits_selectMethod X.admits]; exact q4
  have hl1 : (as.map (rl G)).length = methM.sig.parameters.length := by rw [List.length_map, hlen]; exact argN_len hn hsigM
  rcases hl with hl | ⟨host, hl⟩
  · obtain ⟨vm₁, X₁, hstep₁⟩ := X.invokevirtual hexec hown (hts _ hl) hnamed hmethM hstM hkP hkPi hy (a := rho G b) (cell := cellB) hcell
      (fun z h => by rw [h] at hobj; cases hobj) hselP hmethM habM hkP hkPi (g := F0 m pc ls (((vp b :: as).reverse ++ S).map (rl G))) rfl (argsL := as.map (rl G)) (rest := S.map (rl G)) hl1 (args_stackV G b as S) (by rw [hb]; exact hd)
    exact ⟨vm₁, mk, _, 3, X₁, hnamed, by rw [hb]; exact hd, hnx, hstep₁⟩
  · obtain ⟨vm₁, X₁, hstep₁⟩ := X.invokevirtualNest hexec hown (va_Nw.use rfl (hK.2.1 _ hl)) hnamed hmethM hstM hkP hkPi hy (a := rho G b) (cell := cellB) hcell
      (fun z h => by rw [h] at hobj; cases hobj) hselP hmethM habM hkP hkPi (g := F0 m pc ls (((vp b :: as).reverse ++ S).map (rl G))) rfl (argsL := as.map (rl G)) (rest := S.map (rl G)) hl1 (args_stackV G b as S) (by rw [hb]; exact hd)
    exact ⟨vm₁, mk, _, 3, X₁, hnamed, by rw [hb]; exact hd, hnx, hstep₁⟩
/-- the named method x is declared by 'owner', a superclass; it may be abstract -/
theorem site_U {Y Y' : MD} {pc nx idx b n : Nat} {as S : List MV} {M : MH} {C0 owner : String} {x : MethodName} (h : Dk Y pc (.invokevirtual idx) 3 nx) (hl : Cond.methodLink (my Y).cls idx x ∈ lw_all) (hsame : Cond.sameMethod x.cls owner x.name x.desc ∈ lw_all) (hdecl : Cond.declares ⟨owner, x.name, x.desc⟩ ∈ lw_big ∨ (Cond.instanceMethod ⟨owner, x.name, x.desc⟩ ∈ lw_all ∧ ∃ (b0 : ByteArray) (L0 : Nat) (r0 : Option FieldType), Cond.code ⟨owner, x.name, x.desc⟩ b0 L0 r0 ∈ lw_all) ∨ ((my Y') = ⟨owner, x.name, x.desc⟩)) (hown0 : notMH owner) (hinst : Cond.instanceMethod (my Y') ∈ lw_all) (hsel : Cond.selects C0 x (my Y') ∈ lw_all) (hcw : mword Y' ∈ lw_all) (hxd : x.desc = (my Y').desc) (hn : argN Y' n) (hC : ClsOf M b C0) (hlen : as.length = n) : Site Y pc nx Y' (vp b :: as) S M := by
  intro d G M0 p l e R s m args below meth c locs ls T cells slots hcx hR hsz X
  obtain ⟨hd, hnx⟩ := h
  obtain ⟨hexec, hb, -, hml, hown, hts, -, -, hK, -⟩ := hcx
  obtain ⟨cellB, hcell, hobj, hcls⟩ := hC.cell hR hK
  obtain ⟨mk, methM, hnamed, hmethM, hstM, habM⟩ := Cond.instanceMethod_spec (hts _ hinst)
  have hd0 : va_Decl s ⟨owner, x.name, x.desc⟩ := by
    rcases hdecl with hz | ⟨hz, b0, L0, r0, hz2⟩ | hz
    · exact va_Decl.abs (hK.2.1 _ hz)
    · exact va_Decl.of (hts _ hz) (hts _ hz2)
    · obtain ⟨m9, methM', cM, hn9, hmethM', -, -, -, -, -, -, hsigM⟩ := mword_spec (hts _ hcw)
      cases hnamed.symm.trans hn9
      cases hmethM.symm.trans hmethM'
      rw [← hz]
      exact ⟨mk, methM, hnamed, hmethM, hstM, hsigM⟩
  obtain ⟨r0, r, hn0, hrm, hstR, hsigR⟩ := hd0
  obtain ⟨cn, ck, r1, hcn, hck, hni, hf, hn1⟩ := Cond.sameMethod_found (hts _ hsame)
  cases hn0.symm.trans hn1
  obtain ⟨c2, r2, m2, q1, q2, q3, q4, kP, hkP, hkPi⟩ := Cond.selects_spec (hts _ hsel)
  cases hcls.symm.trans q1
  cases hf.symm.trans q2
  cases hnamed.symm.trans q3
  have hselP : selectMethod e.platform s.vm cellB.cls r0 = .method mk := by rw [Launch.admits_selectMethod X.admits]; exact q4
  have hl1 : (as.map (rl G)).length = r.sig.parameters.length := by
    rw [List.length_map, hlen]
    exact argN_len hn (by rw [← hxd]; exact hsigR)
  obtain ⟨vm₁, X₁, hstep₁⟩ := X.invokevirtualUp hexec hown (hts _ hl) (hts _ hsame) hown0 hn0 hrm hstR (a := rho G b) (cell := cellB) hcell
    (fun z h => by rw [h] at hobj; cases hobj) hselP hmethM habM hkP hkPi (g := F0 m pc ls (((vp b :: as).reverse ++ S).map (rl G))) rfl (argsL := as.map (rl G)) (rest := S.map (rl G)) hl1 (args_stackV G b as S) (by rw [hb]; exact hd)
  exact ⟨vm₁, mk, _, 3, X₁, hnamed, by rw [hb]; exact hd, hnx, hstep₁⟩
/-- a constructor -/
theorem site_I {Y Y' : MD} {pc nx idx b n : Nat} {as S : List MV} {M : MH} (h : Dk Y pc (.invokespecial idx) 3 nx) (hl : LinkM Y idx (my Y')) (hinst : Cond.instanceMethod (my Y') ∈ lw_all) (hcw : Cond.code (my Y') (mcc Y') (mnL Y') none ∈ lw_all) (hy1 : (my Y').name = "<init>") (hn : argN Y' n) (hy : notMH (my Y').cls) (hlen : as.length = n) : Site Y pc nx Y' (vp b :: as) S M := by
  intro d G M0 p l e R s m args below meth c locs ls T cells slots hcx hR hsz X
  obtain ⟨hd, hnx⟩ := h
  obtain ⟨hexec, hb, -, hml, hown, hts, -, -, hK, -⟩ := hcx
  have hpl : e.platform.magicAccessors = ({} : Platform).magicAccessors := by rw [X.admits.platform]
  have hl1 : ∀ sig, parseMethodDescriptor (my Y').desc = some sig → (as.map (rl G)).length = sig.parameters.length := fun sig hs => by
    rw [List.length_map, hlen]; exact argN_len hn hs
  rcases hl with hl | ⟨host, hl⟩
  · obtain ⟨mk, methM, cM, kP, vm₁, hnamed, hmethM, hcodeM, -, hlocalsM, -, hkP, -, hW₁, hstep₁⟩ := Steps.initColdArgs (e := e) X.here hexec X.warmed hpl hown hy1 hy (hts _ hl) (hts _ hinst) (hts _ hcw) (f := F0 m pc ls (((vp b :: as).reverse ++ S).map (rl G))) rfl hl1 (args_stackV G b as S) (by rw [hb]; exact hd)
    exact ⟨vm₁, mk, _, 3, X.noted hW₁, hnamed, by rw [hb]; exact hd, hnx, hstep₁⟩
  · obtain ⟨mk, methM, cM, kP, vm₁, hnamed, hmethM, hcodeM, -, hlocalsM, -, hkP, -, hW₁, hstep₁⟩ := Steps.initColdArgsNest (e := e) X.here hexec X.warmed hpl hown hy1 hy (va_Nw.use rfl (hK.2.1 _ hl)) (hts _ hinst) (hts _ hcw) (f := F0 m pc ls (((vp b :: as).reverse ++ S).map (rl G))) rfl hl1 (args_stackV G b as S) (by rw [hb]; exact hd)
    exact ⟨vm₁, mk, _, 3, X.noted hW₁, hnamed, by rw [hb]; exact hd, hnx, hstep₁⟩
/-! contracts of methods that return -/
/-- it returns an int -/
def MCi (Y : MD) (d : Nat) (as : List MV) (M : MH) (P : Int → MH → Prop) : Prop := MC Y d as M (fun o M' => ∃ z, o = .inl (some (vi z)) ∧ P z M')
def MCl (Y : MD) (d : Nat) (as : List MV) (M : MH) (P : Int → MH → Prop) : Prop := MC Y d as M (fun o M' => ∃ z, o = .inl (some (vl z)) ∧ P z M')
def MCv (Y : MD) (d : Nat) (as : List MV) (M : MH) (P : MH → Prop) : Prop := MC Y d as M (fun o M' => o = .inl none ∧ P M')
def MCr (Y : MD) (d : Nat) (as : List MV) (M : MH) (P : Option Nat → MH → Prop) : Prop := MC Y d as M (fun o M' => ∃ r, o = .inl (some (vr r)) ∧ P r M')
/-- the end of a method that returns an int ... -/
abbrev Ri (P : Int → MH → Prop) : Out → MH → Prop := fun o M' => ∃ z, o = .inl (some (vi z)) ∧ P z M'
abbrev Rl (P : Int → MH → Prop) : Out → MH → Prop := fun o M' => ∃ z, o = .inl (some (vl z)) ∧ P z M'
abbrev Rv (P : MH → Prop) : Out → MH → Prop := fun o M' => o = .inl none ∧ P M'
abbrev Rr (P : Option Nat → MH → Prop) : Out → MH → Prop := fun o M' => ∃ r, o = .inl (some (vr r)) ∧ P r M'
theorem mw_reti {Y : MD} {d pc nx : Nat} {L : List MV} {M : MH} {P : Int → MH → Prop} {z : Int} (h : Dk Y pc .ireturn 1 nx) (hr : mret Y = some .int) (hq : P z M) : MW Y d pc L [vi z] M (Ri P) := mw_ireturn h hr ⟨z, rfl, hq⟩
theorem mw_retz {Y : MD} {d pc nx : Nat} {L : List MV} {M : MH} {P : Int → MH → Prop} {z : Int} (h : Dk Y pc .ireturn 1 nx) (hr : mret Y = some .boolean) (hz : z = 0 ∨ z = 1) (hq : P z M) : MW Y d pc L [vi z] M (Ri P) := mw_zreturn h hr hz ⟨z, rfl, hq⟩
theorem mw_retl {Y : MD} {d pc nx : Nat} {L : List MV} {M : MH} {P : Int → MH → Prop} {z : Int} (h : Dk Y pc .lreturn 1 nx) (hr : mret Y = some .long) (hq : P z M) : MW Y d pc L [vl z] M (Rl P) := mw_lreturn h hr ⟨z, rfl, hq⟩
theorem mw_retv {Y : MD} {d pc nx : Nat} {L : List MV} {M : MH} {P : MH → Prop} (h : Dk Y pc .return_ 1 nx) (hr : mret Y = none) (hq : P M) : MW Y d pc L [] M (Rv P) := mw_vreturn h hr ⟨rfl, hq⟩
theorem mw_retr {Y : MD} {d pc nx : Nat} {L : List MV} {M : MH} {P : Option Nat → MH → Prop} {r : Option Nat} {rt : FieldType} (h : Dk Y pc .areturn 1 nx) (hr : mret Y = some rt) (hrt : (∃ n, rt = .object n) ∨ ∃ t, rt = .array t) (hq : P r M) : MW Y d pc L [vr r] M (Rr P) := mw_areturn h hr hrt ⟨r, rfl, hq⟩
/-- what is fixed of a callee -/
def Cal (Y' : MD) : Prop := mword Y' ∈ lw_all ∧ Cond.initialized (my Y').cls ∈ lw_all ∧ mnL Y' ≤ 45 ∧ (my Y').cls ≠ "SoldWithItLaw"
theorem mw_calli {Y Y' : MD} {d pc nx : Nat} {as L S : List MV} {M : MH} {Q : Out → MH → Prop} {P : Int → MH → Prop} (hS : Site Y pc nx Y' as S M) (hc : Cal Y') (h8 : (S.map mcat).sum ≤ 8) (hM : MCi Y' d as M P) (k : ∀ z M', P z M' → MW Y (d + 1) nx L (vi z :: S) M' Q) : MW Y (d + 1) pc L (as.reverse ++ S) M Q :=
  mw_call hS hc.1 hc.2.1 hc.2.2.1 h8 hM hc.2.2.2 (fun v M' h => by obtain ⟨z, e, hP⟩ := h; cases e; exact k z M' hP) (fun a M' h => by obtain ⟨z, e, -⟩ := h; cases e)
theorem mw_calll {Y Y' : MD} {d pc nx : Nat} {as L S : List MV} {M : MH} {Q : Out → MH → Prop} {P : Int → MH → Prop} (hS : Site Y pc nx Y' as S M) (hc : Cal Y') (h8 : (S.map mcat).sum ≤ 8) (hM : MCl Y' d as M P) (k : ∀ z M', P z M' → MW Y (d + 1) nx L (vl z :: S) M' Q) : MW Y (d + 1) pc L (as.reverse ++ S) M Q :=
  mw_call hS hc.1 hc.2.1 hc.2.2.1 h8 hM hc.2.2.2 (fun v M' h => by obtain ⟨z, e, hP⟩ := h; cases e; exact k z M' hP) (fun a M' h => by obtain ⟨z, e, -⟩ := h; cases e)
theorem mw_callv {Y Y' : MD} {d pc nx : Nat} {as L S : List MV} {M : MH} {Q : Out → MH → Prop} {P : MH → Prop} (hS : Site Y pc nx Y' as S M) (hc : Cal Y') (h8 : (S.map mcat).sum ≤ 8) (hM : MCv Y' d as M P) (k : ∀ M', P M' → MW Y (d + 1) nx L S M' Q) : MW Y (d + 1) pc L (as.reverse ++ S) M Q :=
  mw_call hS hc.1 hc.2.1 hc.2.2.1 h8 hM hc.2.2.2 (fun v M' h => by obtain ⟨e, hP⟩ := h; cases e; exact k M' hP) (fun a M' h => by obtain ⟨e, -⟩ := h; cases e)
theorem mw_callr {Y Y' : MD} {d pc nx : Nat} {as L S : List MV} {M : MH} {Q : Out → MH → Prop} {P : Option Nat → MH → Prop} (hS : Site Y pc nx Y' as S M) (hc : Cal Y') (h8 : (S.map mcat).sum ≤ 8) (hM : MCr Y' d as M P) (k : ∀ r M', P r M' → MW Y (d + 1) nx L (vr r :: S) M' Q) : MW Y (d + 1) pc L (as.reverse ++ S) M Q :=
  mw_call hS hc.1 hc.2.1 hc.2.2.1 h8 hM hc.2.2.2 (fun v M' h => by obtain ⟨z, e, hP⟩ := h; cases e; exact k z M' hP) (fun a M' h => by obtain ⟨z, e, -⟩ := h; cases e)
