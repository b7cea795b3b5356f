/-! EXCEPTIONS: thrown on, caught -/
theorem hh_out {Y : MD} {c : Code} {pc : Nat} (hex : c.exceptionTable.toList.map (fun h => (h.startPc, h.endPc, h.handlerPc, h.catchType)) = mhh Y) (ho : ∀ x ∈ mhh Y, ¬ (x.1 ≤ pc ∧ pc < x.2.1)) : ∀ x ∈ c.exceptionTable.toList, covers x pc = false := by
  intro x hx
  have h1 : (x.startPc, x.endPc, x.handlerPc, x.catchType) ∈ mhh Y := by
    rw [← hex]
    exact List.mem_map.mpr ⟨x, hx, rfl⟩
  have h2 := ho _ h1
  show (decide (x.startPc ≤ pc) && decide (pc < x.endPc)) = false
  rw [Bool.and_eq_false_iff, decide_eq_false_iff_not, decide_eq_false_iff_not]
  by_cases c1 : x.startPc ≤ pc
  · exact Or.inr (fun c2 => h2 ⟨c1, c2⟩)
  · exact Or.inl c1
/-- thrown on -/
theorem mx_leave {Y : MD} {d pc a : Nat} {L : List MV} {M : MH} {Q : Out → MH → Prop} (ho : ∀ x ∈ mhh Y, ¬ (x.1 ≤ pc ∧ pc < x.2.1)) (hq : Q (.inr a) M) : MX Y d pc L M a Q := by
  intro G M0 p l e R s m args below meth c H locs ls st C T hT X
  obtain ⟨hexec, hb, hr, hml, hown, hts, hlk, hnm, hK, hroom, hex, hlaw⟩ := C.1
  obtain ⟨k1, k2, k3, k4, k5⟩ := X.leaveThrown (rho G a) (g := F0 m pc ls st) rfl rfl rfl (hh_out hex ho) hlk
  exact ⟨_, k1, .inr a, M, locs, k2, k3, hq, by show Rel G M T.heap; rw [hT]; exact C.2.1, C.2.2.2.2.1, C.2.2.2.2.2, k4, k5, C.2.2.2.1⟩
theorem mw_athrow {Y : MD} {d pc nx a : Nat} {L S : List MV} {M : MH} {Q : Out → MH → Prop} (h : Dk Y pc .athrow 1 nx) (ho : ∀ x ∈ mhh Y, ¬ (x.1 ≤ pc ∧ pc < x.2.1)) (hq : Q (.inr a) M) : MW Y d pc L (vp a :: S) M Q := by
  intro G M0 p l e R s m args below meth c H locs ls C T hT X
  obtain ⟨hexec, hb, hr, hml, hown, hts, hlk, hnm, hK, hroom, hex, hlaw⟩ := C.1
  obtain ⟨k1, k2, k3, k4, k5⟩ := X.athrowLeaves hexec (g := F0 m pc ls ((vp a :: S).map (rl G))) rfl rfl rfl (hh_out hex ho) (a := rho G a) (rest := S.map (rl G)) rfl (by rw [hb]; exact h.1) hlk
  exact ⟨_, k1, .inr a, M, locs, k2, k3, hq, by show Rel G M T.heap; rw [hT]; exact C.2.1, C.2.2.2.2.1, C.2.2.2.2.2, k4, k5, C.2.2.2.1⟩
/-- the search for a handler finds h, and leaves the tables vm' -/
def FdT (e : Env) (s : State) (f : JFrame) (a : Addr) (h : Handler) (vm' : Vm) : Prop :=
  ∀ (Q : Handler → Pre) (E : CtlPost) (d : Bool) (acts : List Action), wp (findHandler f a) Q E e d acts s ↔ Q h d acts (s.setVm vm')
theorem go_yes {Q : Handler → Pre} {E : CtlPost} {e : Env} {d : Bool} {acts : List Action} {s : State} {f : JFrame} {a : Addr} {x : ExceptionTableEntry} {t : List ExceptionTableEntry} {c : ClassId} {cell : Cell} (hx : covers x f.pc = true) (h0 : x.catchType ≠ 0)
    (hl : s.vm.ClassLinks e.platform f.method.cls x.catchType c) (hcell : s.heap[a]? = some cell) (hobj : ∀ k, cell.vm ≠ .statics k) (hk : ∃ k, s.vm.classes[cell.cls]? = some k) (hc : ∃ k, s.vm.classes[c]? = some k) (hfit : s.vm.assignable cell.cls c = true) :
    wp (findHandler.go f a (x :: t)) Q E e d acts s ↔ Q (.found x.handlerPc) d acts (s.setVm (s.vm.noted f.method.cls x.catchType (.cls c))) := by
  simp only [covers] at hx
  obtain ⟨ha, ht⟩ := (resolveClass_links e.toSetting hl).op (op := VmOp.resolveClass f.method.cls x.catchType) rfl
  have hal : s.vm.Alike (s.vm.noted f.method.cls x.catchType (.cls c)) := (Vm.Alike.refl s.vm).noted _ _ _
  obtain ⟨k1, g1⟩ := hk
  obtain ⟨k2, g2⟩ := hc
  obtain ⟨k1', g1', -⟩ := hal.2.2 _ _ g1
  obtain ⟨k2', g2', -⟩ := hal.2.2 _ _ g2
  have hfit' : (s.vm.noted f.method.cls x.catchType (.cls c)).assignable cell.cls c = true := by rw [hal.assignable]; exact hfit
  simp [findHandler.go, hx, h0, ha, ht, hcell, hobj, g1', g2', hfit', VmOp.dirties, VmOp.acts]
theorem go_no {Q : Handler → Pre} {E : CtlPost} {e : Env} {d : Bool} {acts : List Action} {s : State} {f : JFrame} {a : Addr} {x : ExceptionTableEntry} {t : List ExceptionTableEntry} {c : ClassId} {cell : Cell} (hx : covers x f.pc = true) (h0 : x.catchType ≠ 0)
    (hl : s.vm.ClassLinks e.platform f.method.cls x.catchType c) (hcell : s.heap[a]? = some cell) (hobj : ∀ k, cell.vm ≠ .statics k) (hk : ∃ k, s.vm.classes[cell.cls]? = some k) (hc : ∃ k, s.vm.classes[c]? = some k) (hfit : s.vm.assignable cell.cls c = false) :
    wp (findHandler.go f a (x :: t)) Q E e d acts s ↔ wp (findHandler.go f a t) Q E e d acts (s.setVm (s.vm.noted f.method.cls x.catchType (.cls c))) := by
  simp only [covers] at hx
  obtain ⟨ha, ht⟩ := (resolveClass_links e.toSetting hl).op (op := VmOp.resolveClass f.method.cls x.catchType) rfl
  have hal : s.vm.Alike (s.vm.noted f.method.cls x.catchType (.cls c)) := (Vm.Alike.refl s.vm).noted _ _ _
  obtain ⟨k1, g1⟩ := hk
  obtain ⟨k2, g2⟩ := hc
  obtain ⟨k1', g1', -⟩ := hal.2.2 _ _ g1
  obtain ⟨k2', g2', -⟩ := hal.2.2 _ _ g2
  have hfit' : (s.vm.noted f.method.cls x.catchType (.cls c)).assignable cell.cls c = false := by rw [hal.assignable]; exact hfit
  simp [findHandler.go, hx, h0, ha, ht, hcell, hobj, g1', g2', hfit', VmOp.dirties, VmOp.acts]
theorem caughtT {tb : Tables} {e : Env} {s target : State} {g : JFrame} {c : Code} {below : List Frame} {a : Addr} (h : At s g.method c below) {pc : Nat} {vm' : Vm}
    (hfind : FdT e ((s.setTop g).pushFrame (.throwing a)) g a (.found pc) vm') (hrest : Steps tb e below ((s.setVm vm').setTop { g with pc := pc, stack := [.ref a] }) target) : Steps tb e below ((s.setTop g).pushFrame (.throwing a)) target := by
  obtain ⟨hgo, hw⟩ := h.throwing a
  refine Steps.head hgo hw ?_
  have step : (stepThrowing e ((s.setTop g).pushFrame (.throwing a)) a (.java g :: s.frames.tail)).Is ((((s.setTop g).pushFrame (.throwing a)).setVm vm').setFrames (.java { g with pc := pc, stack := [.ref a] } :: s.frames.tail)) [] := by
    simp only [stepThrowing, searchFrame, vmDo]
    generalize hr : Sem.go _ e false [] ((s.setTop g).pushFrame (.throwing a)) = res
    obtain ⟨as, rfl, ha⟩ := Sem.eq_ok_of hr (a := Handler.found pc) (s' := ((s.setTop g).pushFrame (.throwing a)).setVm vm') (acts' := []) (by simp [hfind _ _ _ _])
    exact ⟨rfl, ha⟩
  rw [stepThread_throwing (frames_entered h.top _), step.1]
  obtain ⟨g₀, hg⟩ := Option.isSome_iff_exists.mp h.top
  obtain ⟨r, hr⟩ := State.topJava?_eq_some.mp hg
  have hr' : (s.setVm vm').frames = .java g₀ :: r := hr
  rw [State.setTop_of_frames _ hr'] at hrest
  have e1 : ∀ (u : State) (F F' : List Frame), ((u.setFrames F).setVm vm').setFrames F' = (u.setVm vm').setFrames F' := fun u F F' => by
    have : (u.setFrames F).setVm vm' = (u.setVm vm').setFrames F := rfl
    rw [this, State.setFrames_setFrames]
  rw [hr, List.tail_cons, State.pushFrame, e1, State.setTop_of_frames _ hr, e1]
  exact hrest
/-- caught by the first entry: the object's own class -/
theorem mx_catch {Y : MD} {d pc a s0 e0 h0 ct : Nat} {rest : List (Nat × Nat × Nat × Nat)} {C0 : String} {L : List MV} {M : MH} {Q : Out → MH → Prop} (hh : mhh Y = (s0, e0, h0, ct) :: rest) (hcov : s0 ≤ pc ∧ pc < e0) (hct : ct ≠ 0) (hl : Cond.classLink (my Y).cls ct C0 ∈ lw_all) (hC : ClsOf M a C0) (k : MW Y d h0 L [vp a] M Q) : MX Y d pc L M a Q := by
  intro G M0 p l e R s m args below meth c H locs ls st C T hT X
  have K := k G M0 p l e R s m args below meth c H locs ls C
  obtain ⟨hexec, hb, hr, hml, hown, hts, hlk, hnm, hK, hroom, hex, hlaw⟩ := C.1
  obtain ⟨cell, h1, h2, h3⟩ := hC.cell C.2.1 hK
  have hasg : s.vm.assignable cell.cls cell.cls = true := by
    rcases hC with ⟨r, hc, rfl⟩ | ⟨ak, n, hs, rfl⟩
    · have hcl := (hK.1.1 _ _ hc).2
      have e1 : _ = cell.cls := Option.some.inj (hcl.1.symm.trans h3)
      rw [← e1]
      exact va_assign hcl
    · exact va_asg _ _
  have hpl : e.platform.magicAccessors = ({} : Platform).magicAccessors := by rw [X.admits.platform]
  obtain ⟨c', hc', hcl⟩ := Cond.classLink_spec hown (hts _ hl) e.platform hpl
  cases h3.symm.trans hc'
  obtain ⟨dk, _, _, kt, hd, _, _, _, _, hkt, _, hopen⟩ := hcl.here
  have hcl₀ := X.warmed.classLinks hcl
  have hW' : s.WarmedH (T.vm.noted m.cls ct (.cls cell.cls)) := X.warmed.noted hd hopen (State.rightAt_cls hcl)
  have hal := X.warmed.alike
  obtain ⟨kt', hkt', -⟩ := hal.2.2 _ _ hkt
  have hfit' : T.vm.assignable cell.cls cell.cls = true := by rw [hal.assignable]; exact hasg
  obtain ⟨x, xs, hx1, hx2, -⟩ : ∃ x xs, c.exceptionTable.toList = x :: xs ∧ (x.startPc, x.endPc, x.handlerPc, x.catchType) = (s0, e0, h0, ct) ∧ True := by
    rw [hh] at hex
    obtain ⟨x, xs, q1, q2, q3⟩ := List.map_eq_cons_iff.mp hex
    exact ⟨x, xs, q1, q2, trivial⟩
  have y1 : x.startPc = s0 := congrArg (fun z => z.1) hx2
  have y2 : x.endPc = e0 := congrArg (fun z => z.2.1) hx2
  have y3 : x.handlerPc = h0 := congrArg (fun z => z.2.2.1) hx2
  have y4 : x.catchType = ct := congrArg (fun z => z.2.2.2) hx2
  obtain ⟨t, b1, b2⟩ := K (T.setVm (T.vm.noted m.cls ct (.cls cell.cls))) hT (X.noted hW')
  refine ⟨t, ?_, b2⟩
  have hcov' : covers x pc = true := by
    show (decide (x.startPc ≤ pc) && decide (pc < x.endPc)) = true
    rw [y1, y2, Bool.and_eq_true, decide_eq_true_iff, decide_eq_true_iff]
    exact hcov
  refine caughtT (g := F0 m pc ls st) (c := c) (pc := h0) (vm' := T.vm.noted m.cls ct (.cls cell.cls)) X.here ?_ b1
  intro Q E d acts
  rw [W.findHandler_eq (meth := meth) (code := c) X.method' X.code, hx1]
  have g := go_yes (Q := Q) (E := E) (e := e) (d := d) (acts := acts) (s := (T.setTop (F0 m pc ls st)).pushFrame (.throwing (rho G a))) (f := F0 m pc ls st) (a := rho G a) (x := x) (t := xs) (c := cell.cls) (cell := cell) hcov' (by rw [y4]; exact hct) (by rw [y4]; exact hcl₀) (by show T.heap[rho G a]? = some cell; rw [hT]; exact h1) (VmData.ne_statics_of h2) (Vm.classAt_of_assignable hfit' ⟨kt', hkt'⟩) ⟨kt', hkt'⟩ hfit'
  rw [y3, y4] at g
  exact g
