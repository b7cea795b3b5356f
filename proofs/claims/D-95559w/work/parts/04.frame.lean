/-! THE FRAME JUDGEMENT MW AND THE CONTRACT MC -/
/-- words that do not ride in lw_all but stay true under warmer tables -/
def bigW : Cond → Bool
  | .fieldLinkNest .. => true
  | .methodLinkNest .. => true
  | .declares _ => true
  | .castable .. => true
  | _ => false
def lw_big : List Cond := lw_tbl.filter bigW
theorem lw_b {w : Cond} (h : w ∈ lw_tbl) (g : bigW w = true) : w ∈ lw_big := List.mem_filter.mpr ⟨h, g⟩
theorem big_warm {w : Cond} (hb : bigW w = true) {s U : State} (hW : s.WarmedH U.vm) (h : va_Nw w s) : va_Nw w U := by
  cases w <;> first | exact va_Nw.warmF hW h | exact va_Nw.warmM hW h | exact va_Nw.warmD hW h | exact va_Nw.warmC hW h | (exact absurd hb (by simp [bigW]))
theorem big_onTables {w : Cond} (hb : bigW w = true) : w.onTables = true := by
  cases w <;> first | rfl | (exact absurd hb (by simp [bigW]))
/-- the state in which the law began, and what held there -/
def KX (G : GH) (s : State) : Prop := ∃ (s0 : State) (a0 : Array Value), s0.vm.Alike s.vm ∧ s0.heap = gH0 G ∧ s0.heap.size = gb0 G ∧ narrow_1.before a0 s0 = true ∧ modulesRight_1 s0 = true ∧ ∀ w ∈ tables_1, w.before a0 s0 = true
/-- what is known of the tables all through a run -/
def KN (G : GH) (s : State) : Prop :=
  va_K (gD G) mcl (mtys G) s ∧ (∀ w ∈ lw_big, va_Nw w s) ∧ va_AO "java/lang/Object" s ∧ va_AO "SoldWithIt$Sheet" s ∧
  va_Z "java/util/ArrayList" "DEFAULTCAPACITY_EMPTY_ELEMENTDATA" "[Ljava/lang/Object;" (.ref (ge0 G)) (fun a => gb0 G ≤ a) s (gH0 G) ∧ KX G s
theorem KN.warm {G : GH} {s U : State} (h : KN G s) (hW : s.WarmedH U.vm) : KN G U :=
  ⟨va_K.moved hW.alike h.1, fun w hw => big_warm (List.mem_filter.mp hw).2 hW (h.2.1 w hw), va_AO.moved hW.alike h.2.2.1, va_AO.moved hW.alike h.2.2.2.1, va_Z.moved hW.alike h.2.2.2.2.1, by
    obtain ⟨s0, a0, k1, k2⟩ := h.2.2.2.2.2
    exact ⟨s0, a0, k1.trans hW.alike, k2⟩⟩
theorem KN.calling {G : GH} {U : State} (h : KN G U) (g : JFrame) (mk : MethodId) (a : Array Value) : KN G (U.calling g mk a) :=
  h.warm (U := U.calling g mk a) (State.WarmedH.refl U)
/-- a method: name, code, locals, answer, handlers -/
abbrev MD : Type := MethodName × ByteArray × Nat × Option FieldType × List (Nat × Nat × Nat × Nat)
abbrev my (Y : MD) : MethodName := Y.1
abbrev mcc (Y : MD) : ByteArray := Y.2.1
abbrev mnL (Y : MD) : Nat := Y.2.2.1
abbrev mret (Y : MD) : Option FieldType := Y.2.2.2.1
abbrev mhh (Y : MD) : List (Nat × Nat × Nat × Nat) := Y.2.2.2.2
def mword (Y : MD) : Cond := if mhh Y = [] then Cond.code (my Y) (mcc Y) (mnL Y) (mret Y) else Cond.codeWith (my Y) (mcc Y) (mnL Y) (mret Y) (mhh Y)
theorem mword_spec {Y : MD} {args : Array Value} {s : State} (h : (mword Y).before args s = true) : ∃ m meth c, s.methodNamed? (my Y) = some m ∧ s.vm.method? m = some meth ∧ meth.code = some c ∧ c.code = mcc Y ∧ c.maxLocals = mnL Y ∧ meth.sig.returnType = mret Y ∧ meth.locks = false ∧
    c.exceptionTable.toList.map (fun h => (h.startPc, h.endPc, h.handlerPc, h.catchType)) = mhh Y ∧ parseMethodDescriptor (my Y).desc = some meth.sig := by
  unfold mword at h
  split at h
  · rename_i h0
    obtain ⟨mk, hn⟩ := Cond.code_named h
    obtain ⟨meth, c, h1, h2, h3, h4, h5, h6, h7, h8⟩ := Cond.code_spec hn h
    refine ⟨mk, meth, c, hn, h1, h2, h3, h4, h5, h6, ?_, h8⟩
    rw [h0]
    have : c.exceptionTable = #[] := by simpa using h7
    rw [this]
    rfl
  · obtain ⟨mk, meth, c, hn, h1, h2, h3, h4, h7, h5, h6, h8⟩ := Cond.codeWith_spec h
    exact ⟨mk, meth, c, hn, h1, h2, h3, h4, h5, h6, h7, h8⟩
/-- what a frame of the method Y knows; M0: the mini heap at its entry; d: how many frames it may still lay -/
def CxOK (Y : MD) (d : Nat) (G : GH) (M0 : MH) (p : Program) (l : Launch) (R : Room) (s : State) (m : MethodId) (args : Array Value) (meth : Method) (c : Code) : Prop :=
  p.tables.exec = Jvm.exec ∧ c.code = mcc Y ∧ meth.sig.returnType = mret Y ∧ c.maxLocals = mnL Y ∧ s.vm.findClass (my Y).cls = some m.cls ∧ (∀ w ∈ lw_all, w.before args s = true) ∧ meth.locks = false ∧ meth.name = (my Y).name ∧ KN G s ∧
  (d ≤ R.frames ∧ 64 * d + 11000 ≤ R.locals ∧ mNC ≤ R.cells + mhn M0 ∧ mNS ≤ R.slots + mhs M0) ∧ c.exceptionTable.toList.map (fun h => (h.startPc, h.endPc, h.handlerPc, h.catchType)) = mhh Y ∧
  ((my Y).cls = "SoldWithItLaw" → va_X (gbs G) (gL G) (gxs G) s (gH0 G)) ∧ l.flags = flags0 ∧ ∀ q : Nat, q < gb0 G → s.heap[q]? = (gH0 G)[q]?
def lvR (G : GH) (ls : Array Slot) (nL : Nat) (L : List MV) : Prop := ls.size = nL ∧ lv_wf ls ∧ ∀ (i : Nat) (v : MV), L[i]? = some v → v ≠ vu → ls[i]? = some (.val (rl G v))
def outO (G : GH) : Out → Outcome
  | .inl v => .returned (v.map (rl G))
  | .inr a => .threw (rho G a)
/-- the frame has come to its end -/
def FinE (G : GH) (s : State) (below : List Frame) (M0 : MH) (Q : Out → MH → Prop) : State → Prop := fun t =>
  ∃ (out : Out) (M' : MH) (L : List Loc), t.status = .running ∧ Ended t below (outO G out) ∧ Q out M' ∧ Rel G M' t.heap ∧ mhn M0 ≤ mhn M' ∧ mhs M0 ≤ mhs M' ∧ s.WarmedH t.vm ∧ s.sameButNew ({ t with vm := s.vm } : State) L (mhn M' - mhn M0) (mhs M' - mhs M0) ∧ ∀ q ∈ L, gb0 G ≤ q.base
def Cx (Y : MD) (d : Nat) (G : GH) (M0 : MH) (L : List MV) (M : MH) (p : Program) (l : Launch) (R : Room) (s : State) (m : MethodId) (args : Array Value) (meth : Method) (c : Code) (H : Heap) (locs : List Loc) (ls : Array Slot) : Prop :=
  CxOK Y d G M0 p l R s m args meth c ∧ Rel G M H ∧ lvR G ls (mnL Y) L ∧ (∀ q ∈ locs, gb0 G ≤ q.base) ∧ mhn M0 ≤ mhn M ∧ mhs M0 ≤ mhs M
/-- THE FRAME JUDGEMENT: the method Y at pc, with locals L, operand stack S, mini heap M, comes to an end with Q -/
def MW (Y : MD) (d pc : Nat) (L S : List MV) (M : MH) (Q : Out → MH → Prop) : Prop :=
  ∀ (G : GH) (M0 : MH) (p : Program) (l : Launch) (e : Env) (R : Room) (s : State) (m : MethodId) (args : Array Value) (below : List Frame) (meth : Method) (c : Code) (H : Heap) (locs : List Loc) (ls : Array Slot),
    Cx Y d G M0 L M p l R s m args meth c H locs ls → W p l e R s m args below meth c H locs (mhn M - mhn M0) (mhs M - mhs M0) (FinE G s below M0 Q) (F0 m pc ls (S.map (rl G)))
/-- ... or is just throwing the object at the place a -/
def MX (Y : MD) (d pc : Nat) (L : List MV) (M : MH) (a : Nat) (Q : Out → MH → Prop) : Prop :=
  ∀ (G : GH) (M0 : MH) (p : Program) (l : Launch) (e : Env) (R : Room) (s : State) (m : MethodId) (args : Array Value) (below : List Frame) (meth : Method) (c : Code) (H : Heap) (locs : List Loc) (ls : Array Slot) (st : List Value),
    Cx Y d G M0 L M p l R s m args meth c H locs ls → ∀ T : State, T.heap = H → Stand p l e R s m args below meth c T locs (mhn M - mhn M0) (mhs M - mhs M0) → ∃ t, Steps p.tables e below ((T.setTop (F0 m pc ls st)).pushFrame (.throwing (rho G a))) t ∧ FinE G s below M0 Q t
/-- THE CONTRACT: called with as in the mini heap M, within d frames -/
def MC (Y : MD) (d : Nat) (as : List MV) (M : MH) (Q : Out → MH → Prop) : Prop :=
  ∀ (G : GH) (l : Launch) (rm : Room), l.flags = flags0 → d ≤ rm.frames → 64 * d + 11000 ≤ rm.locals → mNC ≤ rm.cells + mhn M → mNS ≤ rm.slots + mhs M →
    MetFree l (my Y) (headSpec (mword Y :: lw_all) rm) (fun a U => a = (as.map (rl G)).toArray ∧ Rel G M U.heap ∧ KN G U ∧ ((my Y).cls = "SoldWithItLaw" → va_X (gbs G) (gL G) (gxs G) U (gH0 G))) (fun _ _ _ _ _ => True)
      (fun _ st o t => ∃ (out : Out) (M' : MH) (L : List Loc), o = outO G out ∧ Q out M' ∧ Rel G M' t.heap ∧ mhn M ≤ mhn M' ∧ mhs M ≤ mhs M' ∧ st.WarmedH t.vm ∧ st.sameButNew ({ t with vm := st.vm } : State) L (mhn M' - mhn M) (mhs M' - mhs M) ∧ ∀ q ∈ L, gb0 G ≤ q.base)
theorem FinE.mono {G : GH} {s : State} {below : List Frame} {M0 : MH} {Q Q' : Out → MH → Prop} {t : State} (h : FinE G s below M0 Q t) (hq : ∀ o M, Q o M → Q' o M) : FinE G s below M0 Q' t := by
  obtain ⟨out, M', L, h1, h2, h3, h4⟩ := h
  exact ⟨out, M', L, h1, h2, hq _ _ h3, h4⟩
theorem MW.mono {Y : MD} {d pc : Nat} {L S : List MV} {M : MH} {Q Q' : Out → MH → Prop} (h : MW Y d pc L S M Q) (hq : ∀ o M, Q o M → Q' o M) : MW Y d pc L S M Q' := by
  intro G M0 p l e R s m args below meth c H locs ls C T hT X
  obtain ⟨t, a1, a2⟩ := h G M0 p l e R s m args below meth c H locs ls C T hT X
  exact ⟨t, a1, a2.mono hq⟩
theorem MC.mono {Y : MD} {d : Nat} {as : List MV} {M : MH} {Q Q' : Out → MH → Prop} (h : MC Y d as M Q) (hq : ∀ o M, Q o M → Q' o M) : MC Y d as M Q' := by
  intro G l rm h0 h1 h2 h3 h4 p e ha hc hk s m args below hf happ hP hK
  obtain ⟨n, o, a1, a2, a3, out, M', L, b1, b2, b3⟩ := h G l rm h0 h1 h2 h3 h4 p e ha hc hk s m args below hf happ hP hK
  exact ⟨n, o, a1, a2, a3, out, M', L, b1, hq _ _ b2, b3⟩
theorem MC.deep {Y : MD} {d d' : Nat} {as : List MV} {M : MH} {Q : Out → MH → Prop} (h : MC Y d as M Q) (hd : d ≤ d') : MC Y d' as M Q :=
  fun G l rm h0 h1 h2 h3 h4 => h G l rm h0 (by omega) (by omega) h3 h4
/-! the entry -/
def mlay : List MV → List MV
  | [] => []
  | v :: vs => if mcat v = 2 then v :: vu :: mlay vs else v :: mlay vs
theorem mlay_args (G : GH) : ∀ (as : List MV) (k i : Nat) (v : MV), (mlay as)[i]? = some v → v ≠ vu → (k + i, rl G v) ∈ lv_args k (as.map (rl G))
  | [], k, i, v, h, _ => by simp [mlay] at h
  | w :: vs, k, i, v, h, hv => by
    rw [List.map_cons, lv_args, rl_cat]
    unfold mlay at h
    split at h
    · rename_i h2
      rw [if_pos h2]
      rcases i with _ | _ | i
      · cases h; exact List.mem_cons_self
      · simp at h; exact absurd h.symm hv
      · have h3 : (mlay vs)[i]? = some v := by simpa using h
        have := mlay_args G vs (k + 2) i v h3 hv
        refine List.mem_cons_of_mem _ ?_
        rw [show k + (i + 1 + 1) = k + 2 + i by omega]
        exact this
    · rename_i h2
      rw [if_neg h2]
      rcases i with _ | i
      · cases h; exact List.mem_cons_self
      · have h3 : (mlay vs)[i]? = some v := by simpa using h
        have := mlay_args G vs (k + 1) i v h3 hv
        refine List.mem_cons_of_mem _ ?_
        rw [show k + (i + 1) = k + 1 + i by omega]
        exact this
theorem mlay_len (G : GH) : ∀ as : List MV, (lg_sl (as.map (rl G))).length = (mlay as).length
  | [] => rfl
  | v :: vs => by
    have ih := mlay_len G vs
    unfold lg_sl at ih ⊢
    rw [List.map_cons, List.flatMap_cons, List.length_append, ih, rl_cat]
    show _ = (if mcat v = 2 then v :: vu :: mlay vs else v :: mlay vs).length
    split
    · simp only [List.length_cons, List.length_nil]; omega
    · simp only [List.length_cons, List.length_nil]; omega
def mentry (as : List MV) (nL : Nat) : List MV := mlay as ++ List.replicate (nL - (mlay as).length) vu
theorem mc_of {Y : MD} {d : Nat} {as L : List MV} {M : MH} {Q : Out → MH → Prop} (hy : plainName (my Y).cls = true) (hlen : (mlay as).length ≤ mnL Y) (hL : mentry as (mnL Y) = L) (h : MW Y d 0 L [] M Q) : MC Y d as M Q := by
  intro G l rm h0 h1 h2 h3 h4
  refine MetFree.of_bodyS (code := mcc Y) (maxLocals := mnL Y) (ret := mret Y) hy ?_ ?_
  · intro args s m hw hn
    obtain ⟨m9, meth, c, hn9, a1, a2, a3, a4, a5, a6, -⟩ := mword_spec (atoms_spec (ws := mword Y :: lw_all) hw _ List.mem_cons_self)
    cases hn.symm.trans hn9
    exact ⟨meth, c, a1, a2, a3, a4, a5, a6⟩
  · intro p e s m args below meth c s₁ B hml hP _
    obtain ⟨rfl, hR, hK, hlaw⟩ := hP
    have hh0 : s₁.heap = s.heap := by rw [B.state]; rfl
    have hts0 := atoms_spec (ws := mword Y :: lw_all) B.pre
    obtain ⟨m9, meth9, c9, hn9, a1, a2, -, -, -, -, a7, -⟩ := mword_spec (hts0 _ List.mem_cons_self)
    cases B.named.symm.trans hn9
    cases B.method.symm.trans a1
    have hcode : meth.code = some c := (Stand.of_body B).code
    cases hcode.symm.trans a2
    have hts : ∀ w ∈ lw_all, w.before (as.map (rl G)).toArray s = true := fun w hw => hts0 w (List.mem_cons_of_mem _ hw)
    have hcx : CxOK Y d G M p l rm s m (as.map (rl G)).toArray meth c := ⟨B.exec, B.bytes, B.returns, hml, findClass_of_methodNamed B.named, hts, B.notSynchronized, (name_of_methodNamed B.named B.method).1, hK, ⟨h1, h2, h3, h4⟩, a7, hlaw, h0, hR.2.2.1⟩
    have hl0 := lv_entry (as.map (rl G)) (n := mnL Y) (by rw [mlay_len]; exact hlen)
    have hlv : lvR G ((lg_sl (as.map (rl G)) ++ List.replicate (mnL Y - (lg_sl (as.map (rl G))).length) Slot.unset).toArray) (mnL Y) L := by
      refine ⟨hl0.1, hl0.2.1, fun i v hi hv => ?_⟩
      rw [← hL] at hi
      unfold mentry at hi
      by_cases hlt : i < (mlay as).length
      · rw [List.getElem?_append_left hlt] at hi
        have := mlay_args G as 0 i v hi hv
        rw [Nat.zero_add] at this
        exact hl0.2.2 _ this
      · rw [List.getElem?_append_right (by omega)] at hi
        have := List.eq_of_mem_replicate (List.mem_of_getElem? hi)
        exact absurd this hv
    have K := h G M p l e rm s m (as.map (rl G)).toArray below meth c s.heap [] _ ⟨hcx, hR, hlv, (fun q hq => by cases hq), Nat.le_refl _, Nat.le_refl _⟩
    rw [Nat.sub_self, Nat.sub_self] at K
    rw [lg_entry_eq]
    obtain ⟨t, b1, out, M', L', c1, c2, c3, c4, c5, c6, c7, c8, c9⟩ := K s₁ hh0 (Stand.of_body B)
    exact ⟨t, outO G out, b1, c1, c2, out, M', L', rfl, c3, c4, c5, c6, c7, c8, c9⟩
/-! a call -/
/-- the invoking instruction at pc takes as off the stack and invokes Y' -/
def Site (Y : MD) (pc nx : Nat) (Y' : MD) (as S : List MV) (M : MH) : Prop :=
  ∀ (d : Nat) (G : GH) (M0 : MH) (p : Program) (l : Launch) (e : Env) (R : Room) (s : State) (m : MethodId) (args : Array Value) (below : List Frame) (meth : Method) (c : Code) (locs : List Loc) (ls : Array Slot) (T : State) (cells slots : Nat),
    CxOK Y d G M0 p l R s m args meth c → Rel G M T.heap → ls.size = mnL Y → Stand p l e R s m args below meth c T locs cells slots →
    ∃ (vm' : Vm) (mk : MethodId) (ig : Instr) (n : Nat), Stand p l e R s m args below meth c (T.setVm vm') locs cells slots ∧ s.methodNamed? (my Y') = some mk ∧ decode c.code pc = .ok (ig, n) ∧ pc + n = nx ∧
      ∀ target, (∀ acts, Steps p.tables e below (doInvoke e ((T.setVm vm').setTop (F0 m pc ls (S.map (rl G)))) acts mk (as.map (rl G)).toArray).1 target) → Steps p.tables e below (T.setTop (F0 m pc ls ((as.reverse ++ S).map (rl G)))) target
theorem cat_sum (G : GH) (S : List MV) : ((S.map (rl G)).map fun v => v.category).sum = (S.map mcat).sum := by
  induction S with
  | nil => rfl
  | cons v S ih => simp only [List.map_cons, List.sum_cons, ih, rl_cat]
set_option maxHeartbeats 4000000 in
theorem mw_call {Y Y' : MD} {d pc nx : Nat} {as L S : List MV} {M : MH} {Q Qs : Out → MH → Prop} (hS : Site Y pc nx Y' as S M) (hcw : mword Y' ∈ lw_all) (hin : Cond.initialized (my Y').cls ∈ lw_all) (hnL : mnL Y' ≤ 45) (hW8 : (S.map mcat).sum ≤ 8) (hM : MC Y' d as M Qs) (hlawn : (my Y').cls ≠ "SoldWithItLaw")
    (kr : ∀ v M', Qs (.inl v) M' → MW Y (d + 1) nx L (v.toList ++ S) M' Q) (kt : ∀ a M', Qs (.inr a) M' → MX Y (d + 1) pc L M' a Q) : MW Y (d + 1) pc L (as.reverse ++ S) M Q := by
  intro G M0 p l e R s m args below meth c H locs ls C T hT X
  obtain ⟨hcx, hR, hl, hlo, hm1, hm2⟩ := C
  have hcx' := hcx
  obtain ⟨hexec, hb, hr, hml, hown, hts, hlk, hnm, hK, ⟨r1, r2, r3, r4⟩, hex, hlaw⟩ := hcx'
  have hR' : Rel G M T.heap := by rw [hT]; exact hR
  obtain ⟨vm', mk, ig, n, X₁, hnamed, hdg, hnx, hstep⟩ := hS (d + 1) G M0 p l e R s m args below meth c locs ls T _ _ hcx hR' hl.1 X
  generalize hg : F0 m pc ls (S.map (rl G)) = g at hstep
  have hgm : g.method = m := by rw [← hg]
  have hgpc : g.pc = pc := by rw [← hg]
  have hgst : g.stack = S.map (rl G) := by rw [← hg]
  have hgl : g.locals = ls := by rw [← hg]
  have hsize : g.locals.size = c.maxLocals := by rw [hgl, hl.1, hml]
  have hdg' : decode c.code g.pc = .ok (ig, n) := by rw [hgpc]; exact hdg
  have hh : At (T.setVm vm') g.method c below := by rw [hgm]; exact X₁.here
  have hn1 := X₁.named hnamed
  have hwd : ∀ w ∈ (mword Y' :: lw_all), ∀ (a' : Array Value) (U : State), s.WarmedH U.vm → w.before a' U = true := by
    intro w hw a' U hWU
    have hwl : w ∈ lw_all := by
      rcases List.mem_cons.mp hw with e | e
      · rw [e]; exact hcw
      · exact e
    exact pay_in hts lw_self w hwl a' U hWU
  obtain ⟨m9, methY, cY, hn9, hmY, hcY, -, hlY, -⟩ := mword_spec (hwd _ List.mem_cons_self (as.map (rl G)).toArray (T.setVm vm') X₁.warmed)
  cases hn1.symm.trans hn9
  obtain ⟨kY, hkY, -⟩ := className_of_methodNamed hn1
  have hinitY : kY.init = .initialized := Cond.initialized_spec (findClass_of_methodNamed hn1) hkY (hwd _ (List.mem_cons_of_mem _ hin) (as.map (rl G)).toArray (T.setVm vm') X₁.warmed)
  obtain ⟨⟨z1, z2, z3, z4⟩, -⟩ := hR
  have hmon : 2 * g.monitorRoom + (g.stack.map fun v => v.category).sum ≤ 8 := by
    rw [hgst, cat_sum, ← hg]
    show 2 * 0 + _ ≤ 8
    omega
  obtain ⟨rm, f1, f2, f3, f4⟩ : ∃ rm : Room, rm.frames = d ∧ rm.cells = mNC - mhn M ∧ rm.slots = mNS - mhs M ∧ rm.locals = 64 * d + 11000 := ⟨{ frames := d, cells := mNC - mhn M, slots := mNS - mhs M, locals := 64 * d + 11000 }, rfl, rfl, rfl, rfl⟩
  have hroom : ((T.setVm vm').calling g mk (as.map (rl G)).toArray).hasRoom e.platform rm = true :=
    X₁.room_calling (g := g) (R' := rm) hsize hmY hcY (by omega) (by omega) (by omega) (by omega)
  have happ : (headSpec (mword Y' :: lw_all) rm).appliesLoose (my Y') e.platform ((T.setVm vm').calling g mk (as.map (rl G)).toArray) = true :=
    Spec.appliesLoose_calling (g := g) hh hdg' hn1 hkY hinitY hroom (atoms_intro fun w hw => hwd w hw _ _ X₁.warmed)
  obtain ⟨mid, hmid⟩ := hh.above
  obtain ⟨g₀, hfr0⟩ := X₁.frames_eq
  have hfrB : ((T.setVm vm').setTop g).frames = .java g :: below := by rw [State.frames_setTop' g hh.top, hfr0]; rfl
  have hfr : ((T.setVm vm').setTop g).frames = [.java g] ++ below := hfrB
  have hKN1 : KN G (T.setVm vm') := hK.warm (U := T.setVm vm') X₁.warmed
  obtain ⟨o, s₂, hsteps, hrun, hend, out, M', L2, e1, hq, hR2, m1, m2, w2, sb2, lo2⟩ := Steps.callFree (hM G l rm hlaw.2.1 (by omega) (by omega) (by omega) (by omega)) p X.admits X.cas X.clock (acts := []) (s := (T.setVm vm').setTop g) (m := mk) (args := (as.map (rl G)).toArray) hfr happ ⟨rfl, hR', hKN1.calling g mk _, fun hz => absurd hz hlawn⟩ trivial
  subst e1
  rw [hfrB] at hend
  have hacts : ∀ t, Steps p.tables e below s₂ t → Steps p.tables e below (T.setTop (F0 m pc ls ((as.reverse ++ S).map (rl G)))) t := fun t ht => hstep t fun acts => by rw [doInvoke_state]; exact hsteps.trans ht
  have hcells : mhn M - mhn M0 + (mhn M' - mhn M) = mhn M' - mhn M0 := by omega
  have hslots : mhs M - mhs M0 + (mhs M' - mhs M) = mhs M' - mhs M0 := by omega
  have hlo' : ∀ q ∈ locs ++ L2, gb0 G ≤ q.base := fun q hq => by
    rcases List.mem_append.mp hq with h | h
    · exact hlo q h
    · exact lo2 q h
  cases out with
  | inl v =>
    obtain ⟨T', X', hWT, hsame, ht⟩ := X₁.outOf (g := g) hgm hdg' (mk := mk) (a := (as.map (rl G)).toArray) hend w2 sb2
    rw [hcells, hslots] at X'
    have hheap : s₂.heap = T'.heap := by rw [ht]; simp [State.setTop, State.modifyTopJava]
    have hst : (v.map (rl G)).toList ++ g.stack = (v.toList ++ S).map (rl G) := by rw [hgst]; cases v <;> simp
    have K := kr v M' hq G M0 p l e R s m args below meth c T'.heap (locs ++ L2) ls ⟨hcx, by rw [← hheap]; exact hR2, hl, hlo', by omega, by omega⟩ T' rfl X'
    obtain ⟨t, k1, k2⟩ := K
    refine ⟨t, hacts t ?_, k2⟩
    rw [ht, hst]
    have : ({ g with pc := g.pc + n, stack := (v.toList ++ S).map (rl G) } : JFrame) = F0 m nx ls ((v.toList ++ S).map (rl G)) := by
      rw [hgpc, hnx, ← hg]
    rw [this]
    exact k1
  | inr a =>
    obtain ⟨T', X', hWT, hsame, ht⟩ := X₁.outOfThrown (g := g) hgm (mk := mk) (a := (as.map (rl G)).toArray) hend w2 sb2
    rw [hcells, hslots] at X'
    have hheap : s₂.heap = T'.heap := by rw [ht]; simp [State.pushFrame, State.setFrames, State.setTop, State.modifyTopJava]
    have K := kt a M' hq G M0 p l e R s m args below meth c T'.heap (locs ++ L2) ls (S.map (rl G)) ⟨hcx, by rw [← hheap]; exact hR2, hl, hlo', by omega, by omega⟩ T' rfl X'
    obtain ⟨t, k1, k2⟩ := K
    refine ⟨t, hacts t ?_, k2⟩
    rw [ht, ← hg]
    exact k1
