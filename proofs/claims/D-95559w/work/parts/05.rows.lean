/-! ONE ROW AN INSTRUCTION: constants, locals, stack, arithmetic, branches, returns -/
abbrev Dk (Y : MD) (pc : Nat) (i : Instr) (n nx : Nat) : Prop := decode (mcc Y) pc = .ok (i, n) ∧ pc + n = nx
theorem W.mono {p : Program} {l : Launch} {e : Env} {R : Room} {s : State} {m : MethodId} {args : Array Value} {below : List Frame} {meth : Method} {c : Code} {H : Heap} {locs : List Loc} {cells slots : Nat} {Q Q' : State → Prop} {g : JFrame} (h : W p l e R s m args below meth c H locs cells slots Q g) (hq : ∀ t, Q t → Q' t) : W p l e R s m args below meth c H locs cells slots Q' g := by
  intro T hT X
  obtain ⟨t, a, b⟩ := h T hT X
  exact ⟨t, a, hq t b⟩
/-! numbers -/
theorem i32_eq {a b : Int} (ha : inR a) (hb : inR b) : Int32.ofInt a = Int32.ofInt b ↔ a = b := by
  rw [← Int32.toInt_inj, Int32.toInt_ofInt_of_le (by omega) (by omega), Int32.toInt_ofInt_of_le (by omega) (by omega)]
theorem i32_lt {a b : Int} (ha : inR a) (hb : inR b) : Int32.ofInt a < Int32.ofInt b ↔ a < b := by
  rw [Int32.lt_iff_toInt_lt, Int32.toInt_ofInt_of_le (by omega) (by omega), Int32.toInt_ofInt_of_le (by omega) (by omega)]
theorem i32_le {a b : Int} (ha : inR a) (hb : inR b) : Int32.ofInt a ≤ Int32.ofInt b ↔ a ≤ b := by
  rw [Int32.le_iff_toInt_le, Int32.toInt_ofInt_of_le (by omega) (by omega), Int32.toInt_ofInt_of_le (by omega) (by omega)]
theorem i32_0 : (0 : Int32) = Int32.ofInt 0 := rfl
theorem i32_clamp {a : Int} (ha : inR a) : (Int32.ofInt a).toNatClampNeg = a.toNat := by
  show (Int32.ofInt a).toInt.toNat = a.toNat
  rw [Int32.toInt_ofInt_of_le (by omega) (by omega)]
theorem i32_in {a : Int} {n : Nat} (h0 : 0 ≤ a) (h1 : a < n) (hn : n ≤ 2147483647) : ¬ (Int32.ofInt a < 0 ∨ n ≤ (Int32.ofInt a).toNatClampNeg) := by
  rw [i32_clamp (by omega), i32_0, i32_lt (by omega) (by omega)]
  omega
theorem bmod_sm {x : Int} (h1 : -32768 ≤ x) (h2 : x < 32768) : x.bmod Int32.size = x := by
  show x.bmod 4294967296 = x
  exact Int.bmod_eq_of_le (by omega) (by omega)
/-! bits -/
def bor (a b : Int) : Int := (Int32.ofInt a ||| Int32.ofInt b).toInt
def band (a b : Int) : Int := (Int32.ofInt a &&& Int32.ofInt b).toInt
def bxor (a b : Int) : Int := (Int32.ofInt a ^^^ Int32.ofInt b).toInt
def bshl (a b : Int) : Int := (Int32.ofInt a <<< (Int32.ofInt b &&& 31)).toInt
def bshr (a b : Int) : Int := (Int32.ofInt a >>> (Int32.ofInt b &&& 31)).toInt
def bushr (a b : Int) : Int := (((Int32.ofInt a).toUInt32 >>> ((Int32.ofInt b).toUInt32 &&& Int32.toUInt32 31)).toInt32).toInt
/-! stores to locals -/
def okSt (L : List MV) (i : Nat) : Bool := match i with
  | 0 => true
  | j + 1 => match L[j]? with
    | some (.inr (.inl _)) => false
    | _ => true
def lvl (G : GH) (L : List MV) : List (Nat × Value) := (L.zipIdx.filter (fun q => match q.1 with | .inr (.inr (.inr _)) => false | _ => true)).map (fun q => (q.2, rl G q.1))
theorem lvl_mem {G : GH} {L : List MV} {q : Nat × Value} : q ∈ lvl G L ↔ ∃ v, L[q.1]? = some v ∧ v ≠ vu ∧ q.2 = rl G v := by
  unfold lvl
  constructor
  · intro h
    obtain ⟨x, h1, h2⟩ := List.mem_map.mp h
    obtain ⟨h3, h4⟩ := List.mem_filter.mp h1
    obtain ⟨v, j⟩ := x
    have h5 := List.mem_zipIdx_iff_getElem?.mp h3
    subst h2
    refine ⟨v, h5, ?_, rfl⟩
    rintro rfl
    simp at h4
  · rintro ⟨v, h1, h2, h3⟩
    refine List.mem_map.mpr ⟨(v, q.1), List.mem_filter.mpr ⟨List.mem_zipIdx_iff_getElem?.mpr h1, ?_⟩, by obtain ⟨a, b⟩ := q; simp at h3 ⊢; exact h3.symm⟩
    rcases v with z | z | r | u
    · rfl
    · rfl
    · rfl
    · exact absurd rfl h2
theorem lvR.has {G : GH} {ls : Array Slot} {nL : Nat} {L : List MV} (h : lvR G ls nL L) : lv_has ls nL (lvl G L) := by
  refine ⟨h.1, h.2.1, fun q hq => ?_⟩
  obtain ⟨v, h1, h2, h3⟩ := lvl_mem.mp hq
  rw [h3]
  exact h.2.2 _ v h1 h2
theorem okSt_spec {L : List MV} {i j : Nat} {v : MV} (h : okSt L i = true) (hj : j + 1 = i) (hv : L[j]? = some v) : mcat v ≠ 2 := by
  subst hj
  simp only [okSt, hv] at h
  rcases v with z | z | r | u
  · simp [mcat]
  · simp at h
  · simp [mcat]
  · simp [mcat]
theorem lvR.set1 {G : GH} {ls' : Array Slot} {nL i : Nat} {L : List MV} {w : MV} (hok : okSt L i = true) (h : lv_has ls' nL ((i, rl G w) :: (lvl G L).filter (fun q => !(q.1 == i) && !(q.1 + 1 == i && q.2.category == 2)))) : lvR G ls' nL (L.set i w) := by
  refine ⟨h.1, h.2.1, fun j v hj hv => ?_⟩
  by_cases e : j = i
  · subst e
    rw [List.getElem?_set] at hj
    simp at hj
    obtain ⟨-, rfl⟩ := hj
    exact h.2.2 _ List.mem_cons_self
  · rw [List.getElem?_set_ne (Ne.symm e)] at hj
    refine h.2.2 (j, rl G v) (List.mem_cons_of_mem _ (List.mem_filter.mpr ⟨lvl_mem.mpr ⟨v, hj, hv, rfl⟩, ?_⟩))
    simp only [Bool.and_eq_true, Bool.not_eq_true', beq_eq_false_iff_ne, ne_eq, Bool.and_eq_false_iff, rl_cat]
    refine ⟨e, ?_⟩
    by_cases e2 : j + 1 = i
    · exact Or.inr (okSt_spec hok e2 hj)
    · exact Or.inl e2
theorem lvR.set2 {G : GH} {ls' : Array Slot} {nL i : Nat} {L : List MV} {w : MV} (hok : okSt L i = true) (h : lv_has ls' nL ((i, rl G w) :: (lvl G L).filter (fun q => !(q.1 == i) && (!(q.1 == i + 1) && !(q.1 + 1 == i && q.2.category == 2))))) : lvR G ls' nL ((L.set i w).set (i + 1) vu) := by
  refine ⟨h.1, h.2.1, fun j v hj hv => ?_⟩
  by_cases e1 : j = i + 1
  · subst e1
    rw [List.getElem?_set] at hj
    simp at hj
    exact absurd hj.2.symm hv
  · rw [List.getElem?_set_ne (Ne.symm e1)] at hj
    by_cases e : j = i
    · subst e
      rw [List.getElem?_set] at hj
      simp at hj
      obtain ⟨-, rfl⟩ := hj
      exact h.2.2 _ List.mem_cons_self
    · rw [List.getElem?_set_ne (Ne.symm e)] at hj
      refine h.2.2 (j, rl G v) (List.mem_cons_of_mem _ (List.mem_filter.mpr ⟨lvl_mem.mpr ⟨v, hj, hv, rfl⟩, ?_⟩))
      simp only [Bool.and_eq_true, Bool.not_eq_true', beq_eq_false_iff_ne, ne_eq, Bool.and_eq_false_iff, rl_cat]
      refine ⟨e, e1, ?_⟩
      by_cases e2 : j + 1 = i
      · exact Or.inr (okSt_spec hok e2 hj)
      · exact Or.inl e2
theorem Cx.setL {Y : MD} {d : Nat} {G : GH} {M0 : MH} {L L' : List MV} {M : MH} {p : Program} {l : Launch} {R : Room} {s : State} {m : MethodId} {args : Array Value} {meth : Method} {c : Code} {H : Heap} {locs : List Loc} {ls ls' : Array Slot} (C : Cx Y d G M0 L M p l R s m args meth c H locs ls) (h : lvR G ls' (mnL Y) L') : Cx Y d G M0 L' M p l R s m args meth c H locs ls' := ⟨C.1, C.2.1, h, C.2.2.2⟩

theorem mw_iconst {Y : MD} {d pc nx : Nat} {L S : List MV} {M : MH} {Q : Out → MH → Prop} {n : Int} (h : Dk Y pc (.iconst n) 1 nx) (k : MW Y d nx L (vi n :: S) M Q) : MW Y d pc L S M Q := by
  intro G M0 p l e R s m args below meth c H locs ls C
  obtain ⟨hd, rfl⟩ := h
  have K := k G M0 p l e R s m args below meth c H locs ls C
  exact lv_iconst C.1.1 C.1.2.1 hd rfl K
theorem mw_bipush {Y : MD} {d pc nx : Nat} {L S : List MV} {M : MH} {Q : Out → MH → Prop} {n : Int} (h : Dk Y pc (.bipush n) 2 nx) (hv : (Int8.ofInt n).toInt32 = Int32.ofInt n) (k : MW Y d nx L (vi n :: S) M Q) : MW Y d pc L S M Q := by
  intro G M0 p l e R s m args below meth c H locs ls C
  obtain ⟨hd, rfl⟩ := h
  have K := k G M0 p l e R s m args below meth c H locs ls C
  exact lv_bipush C.1.1 C.1.2.1 hd hv K
theorem mw_sipush {Y : MD} {d pc nx : Nat} {L S : List MV} {M : MH} {Q : Out → MH → Prop} {n : Int} (h : Dk Y pc (.sipush n) 3 nx) (hv : (Int16.ofInt n).toInt32 = Int32.ofInt n) (k : MW Y d nx L (vi n :: S) M Q) : MW Y d pc L S M Q := by
  intro G M0 p l e R s m args below meth c H locs ls C
  obtain ⟨hd, rfl⟩ := h
  have K := k G M0 p l e R s m args below meth c H locs ls C
  exact lv_sipush C.1.1 C.1.2.1 hd hv K
theorem mw_ldc {Y : MD} {d pc nx : Nat} {L S : List MV} {M : MH} {Q : Out → MH → Prop} {n : Int} {i : Nat} (h : Dk Y pc (.ldc i) 2 nx) (hc : Cond.constant (my Y).cls i (Int32.ofInt n) ∈ lw_all) (k : MW Y d nx L (vi n :: S) M Q) : MW Y d pc L S M Q := by
  intro G M0 p l e R s m args below meth c H locs ls C
  obtain ⟨hd, rfl⟩ := h
  have K := k G M0 p l e R s m args below meth c H locs ls C
  exact lv_ldc C.1.1 C.1.2.1 C.1.2.2.2.2.1 (C.1.2.2.2.2.2.1 _ hc) hd K
theorem mw_ldcw {Y : MD} {d pc nx : Nat} {L S : List MV} {M : MH} {Q : Out → MH → Prop} {n : Int} {i : Nat} (h : Dk Y pc (.ldc_w i) 3 nx) (hc : Cond.constant (my Y).cls i (Int32.ofInt n) ∈ lw_all) (k : MW Y d nx L (vi n :: S) M Q) : MW Y d pc L S M Q := by
  intro G M0 p l e R s m args below meth c H locs ls C
  obtain ⟨hd, rfl⟩ := h
  have K := k G M0 p l e R s m args below meth c H locs ls C
  exact lv_ldcw C.1.1 C.1.2.1 C.1.2.2.2.2.1 (C.1.2.2.2.2.2.1 _ hc) hd K
theorem mw_ldc2 {Y : MD} {d pc nx : Nat} {L S : List MV} {M : MH} {Q : Out → MH → Prop} {n : Int} {i : Nat} (h : Dk Y pc (.ldc2_w i) 3 nx) (hc : Cond.constantLong (my Y).cls i (Int64.ofInt n) ∈ lw_all) (k : MW Y d nx L (vl n :: S) M Q) : MW Y d pc L S M Q := by
  intro G M0 p l e R s m args below meth c H locs ls C
  obtain ⟨hd, rfl⟩ := h
  have K := k G M0 p l e R s m args below meth c H locs ls C
  exact lv_ldc2 C.1.1 C.1.2.1 C.1.2.2.2.2.1 (C.1.2.2.2.2.2.1 _ hc) hd K
theorem mw_lconst {Y : MD} {d pc nx : Nat} {L S : List MV} {M : MH} {Q : Out → MH → Prop} {n : Fin 2} {z : Int} (h : Dk Y pc (.lconst n) 1 nx) (hv : Int64.ofNat (n : Nat) = Int64.ofInt z) (k : MW Y d nx L (vl z :: S) M Q) : MW Y d pc L S M Q := by
  intro G M0 p l e R s m args below meth c H locs ls C
  obtain ⟨hd, rfl⟩ := h
  have K := k G M0 p l e R s m args below meth c H locs ls C
  exact lv_lconst C.1.1 C.1.2.1 hd hv K
theorem mw_null {Y : MD} {d pc nx : Nat} {L S : List MV} {M : MH} {Q : Out → MH → Prop}  (h : Dk Y pc .aconst_null 1 nx) (k : MW Y d nx L (vr none :: S) M Q) : MW Y d pc L S M Q := by
  intro G M0 p l e R s m args below meth c H locs ls C
  obtain ⟨hd, rfl⟩ := h
  have K := k G M0 p l e R s m args below meth c H locs ls C
  exact lv_null C.1.1 C.1.2.1 hd K
theorem mw_iload_n {Y : MD} {d pc nx : Nat} {L S : List MV} {M : MH} {Q : Out → MH → Prop} {k0 : Fin 4} {z : Int} (h : Dk Y pc (.iload_n k0) 1 nx) (hl : L[(k0 : Nat)]? = some (vi z)) (k : MW Y d nx L (vi z :: S) M Q) : MW Y d pc L S M Q := by
  intro G M0 p l e R s m args below meth c H locs ls C
  obtain ⟨hd, rfl⟩ := h
  have K := k G M0 p l e R s m args below meth c H locs ls C
  exact lv_iload_n C.1.1 C.1.2.1 hd rfl (C.2.2.1.2.2 _ _ hl (by simp)) K
theorem mw_iload {Y : MD} {d pc nx : Nat} {L S : List MV} {M : MH} {Q : Out → MH → Prop} {i : Nat} {z : Int} (h : Dk Y pc (.iload i) 2 nx) (hl : L[i]? = some (vi z)) (k : MW Y d nx L (vi z :: S) M Q) : MW Y d pc L S M Q := by
  intro G M0 p l e R s m args below meth c H locs ls C
  obtain ⟨hd, rfl⟩ := h
  have K := k G M0 p l e R s m args below meth c H locs ls C
  exact lv_iload C.1.1 C.1.2.1 hd (C.2.2.1.2.2 _ _ hl (by simp)) K
theorem mw_lload_n {Y : MD} {d pc nx : Nat} {L S : List MV} {M : MH} {Q : Out → MH → Prop} {k0 : Fin 4} {z : Int} (h : Dk Y pc (.lload_n k0) 1 nx) (hl : L[(k0 : Nat)]? = some (vl z)) (k : MW Y d nx L (vl z :: S) M Q) : MW Y d pc L S M Q := by
  intro G M0 p l e R s m args below meth c H locs ls C
  obtain ⟨hd, rfl⟩ := h
  have K := k G M0 p l e R s m args below meth c H locs ls C
  exact lv_lload_n C.1.1 C.1.2.1 hd rfl (C.2.2.1.2.2 _ _ hl (by simp)) K
theorem mw_lload {Y : MD} {d pc nx : Nat} {L S : List MV} {M : MH} {Q : Out → MH → Prop} {i : Nat} {z : Int} (h : Dk Y pc (.lload i) 2 nx) (hl : L[i]? = some (vl z)) (k : MW Y d nx L (vl z :: S) M Q) : MW Y d pc L S M Q := by
  intro G M0 p l e R s m args below meth c H locs ls C
  obtain ⟨hd, rfl⟩ := h
  have K := k G M0 p l e R s m args below meth c H locs ls C
  exact lv_lload C.1.1 C.1.2.1 hd (C.2.2.1.2.2 _ _ hl (by simp)) K
theorem mw_aload_n {Y : MD} {d pc nx : Nat} {L S : List MV} {M : MH} {Q : Out → MH → Prop} {k0 : Fin 4} {r : Option Nat} (h : Dk Y pc (.aload_n k0) 1 nx) (hl : L[(k0 : Nat)]? = some (vr r)) (k : MW Y d nx L (vr r :: S) M Q) : MW Y d pc L S M Q := by
  intro G M0 p l e R s m args below meth c H locs ls C
  obtain ⟨hd, rfl⟩ := h
  have K := k G M0 p l e R s m args below meth c H locs ls C
  cases r with
  | none => exact lv_aload_nN C.1.1 C.1.2.1 hd rfl (C.2.2.1.2.2 _ _ hl (by simp)) K
  | some q => exact lv_aload_n C.1.1 C.1.2.1 hd rfl (C.2.2.1.2.2 _ _ hl (by simp)) K
theorem mw_aload {Y : MD} {d pc nx : Nat} {L S : List MV} {M : MH} {Q : Out → MH → Prop} {i : Nat} {r : Option Nat} (h : Dk Y pc (.aload i) 2 nx) (hl : L[i]? = some (vr r)) (k : MW Y d nx L (vr r :: S) M Q) : MW Y d pc L S M Q := by
  intro G M0 p l e R s m args below meth c H locs ls C
  obtain ⟨hd, rfl⟩ := h
  have K := k G M0 p l e R s m args below meth c H locs ls C
  cases r with
  | none => exact lv_aloadN C.1.1 C.1.2.1 hd (C.2.2.1.2.2 _ _ hl (by simp)) K
  | some q => exact lv_aload C.1.1 C.1.2.1 hd (C.2.2.1.2.2 _ _ hl (by simp)) K
theorem mw_istore_n {Y : MD} {d pc nx : Nat} {L S : List MV} {M : MH} {Q : Out → MH → Prop} {i : Nat} {k0 : Fin 4} {z : Int} (h : Dk Y pc (.istore_n k0) 1 nx) (hi : (k0 : Nat) = i) (hn : i < mnL Y) (hok : okSt L i = true) (k : MW Y d nx (L.set i (vi z)) S M Q) : MW Y d pc L ((vi z) :: S) M Q := by
  intro G M0 p l e R s m args below meth c H locs ls C
  obtain ⟨hd, rfl⟩ := h
  exact lv_istore_n C.1.1 C.1.2.1 hd hi C.2.2.1.has hn rfl (fun ls' h' => k G M0 p l e R s m args below meth c H locs ls' (C.setL (lvR.set1 hok h')))
theorem mw_istore {Y : MD} {d pc nx : Nat} {L S : List MV} {M : MH} {Q : Out → MH → Prop} {i : Nat} {z : Int} (h : Dk Y pc (.istore i) 2 nx) (hn : i < mnL Y) (hok : okSt L i = true) (k : MW Y d nx (L.set i (vi z)) S M Q) : MW Y d pc L ((vi z) :: S) M Q := by
  intro G M0 p l e R s m args below meth c H locs ls C
  obtain ⟨hd, rfl⟩ := h
  exact lv_istore C.1.1 C.1.2.1 hd C.2.2.1.has hn rfl (fun ls' h' => k G M0 p l e R s m args below meth c H locs ls' (C.setL (lvR.set1 hok h')))
theorem mw_lstore_n {Y : MD} {d pc nx : Nat} {L S : List MV} {M : MH} {Q : Out → MH → Prop} {i : Nat} {k0 : Fin 4} {z : Int} (h : Dk Y pc (.lstore_n k0) 1 nx) (hi : (k0 : Nat) = i) (hn : i + 1 < mnL Y) (hok : okSt L i = true) (k : MW Y d nx ((L.set i (vl z)).set (i + 1) vu) S M Q) : MW Y d pc L ((vl z) :: S) M Q := by
  intro G M0 p l e R s m args below meth c H locs ls C
  obtain ⟨hd, rfl⟩ := h
  exact lv_lstore_n C.1.1 C.1.2.1 hd hi C.2.2.1.has hn rfl (fun ls' h' => k G M0 p l e R s m args below meth c H locs ls' (C.setL (lvR.set2 hok h')))
theorem mw_astore_n {Y : MD} {d pc nx : Nat} {L S : List MV} {M : MH} {Q : Out → MH → Prop} {i : Nat} {k0 : Fin 4} {r : Option Nat} (h : Dk Y pc (.astore_n k0) 1 nx) (hi : (k0 : Nat) = i) (hn : i < mnL Y) (hok : okSt L i = true) (k : MW Y d nx (L.set i (vr r)) S M Q) : MW Y d pc L ((vr r) :: S) M Q := by
  intro G M0 p l e R s m args below meth c H locs ls C
  obtain ⟨hd, rfl⟩ := h
  cases r with
  | none => exact lv_astore_nN C.1.1 C.1.2.1 hd hi C.2.2.1.has hn rfl (fun ls' h' => k G M0 p l e R s m args below meth c H locs ls' (C.setL (lvR.set1 hok h')))
  | some q => exact lv_astore_n C.1.1 C.1.2.1 hd hi C.2.2.1.has hn rfl (fun ls' h' => k G M0 p l e R s m args below meth c H locs ls' (C.setL (lvR.set1 hok h')))
theorem mw_astore {Y : MD} {d pc nx : Nat} {L S : List MV} {M : MH} {Q : Out → MH → Prop} {i : Nat} {r : Option Nat} (h : Dk Y pc (.astore i) 2 nx) (hn : i < mnL Y) (hok : okSt L i = true) (k : MW Y d nx (L.set i (vr r)) S M Q) : MW Y d pc L ((vr r) :: S) M Q := by
  intro G M0 p l e R s m args below meth c H locs ls C
  obtain ⟨hd, rfl⟩ := h
  cases r with
  | none => exact lv_astoreN C.1.1 C.1.2.1 hd C.2.2.1.has hn rfl (fun ls' h' => k G M0 p l e R s m args below meth c H locs ls' (C.setL (lvR.set1 hok h')))
  | some q => exact lv_astore C.1.1 C.1.2.1 hd C.2.2.1.has hn rfl (fun ls' h' => k G M0 p l e R s m args below meth c H locs ls' (C.setL (lvR.set1 hok h')))
theorem mw_iinc {Y : MD} {d pc nx : Nat} {L S : List MV} {M : MH} {Q : Out → MH → Prop} {i : Nat} {n z : Int} (h : Dk Y pc (.iinc i n) 3 nx) (hl : L[i]? = some (vi z)) (hn : i < mnL Y) (hok : okSt L i = true) (k : MW Y d nx (L.set i (vi (z + n))) S M Q) : MW Y d pc L S M Q := by
  intro G M0 p l e R s m args below meth c H locs ls C
  obtain ⟨hd, rfl⟩ := h
  have hm : ((i, rl G (vi z)) : Nat × Value) ∈ lvl G L := lvl_mem.mpr ⟨vi z, hl, by simp, rfl⟩
  obtain ⟨j, hj⟩ := List.getElem?_of_mem hm
  exact lv_iinc (k := j) (v := Int32.ofInt (z + n)) C.1.1 C.1.2.1 hd C.2.2.1.has hj (by rw [Int32.ofInt_add]) hn rfl (fun ls' h' => k G M0 p l e R s m args below meth c H locs ls' (C.setL (lvR.set1 hok h')))
theorem mw_iadd {Y : MD} {d pc nx : Nat} {L S : List MV} {M : MH} {Q : Out → MH → Prop} {a b : Int} (h : Dk Y pc .iadd 1 nx) (k : MW Y d nx L (vi (a + b) :: S) M Q) : MW Y d pc L (vi b :: vi a :: S) M Q := by
  intro G M0 p l e R s m args below meth c H locs ls C
  obtain ⟨hd, rfl⟩ := h
  have K := k G M0 p l e R s m args below meth c H locs ls C
  exact lv_iadd C.1.1 C.1.2.1 hd (by rw [← Int32.ofInt_add]; exact K)
theorem mw_isub {Y : MD} {d pc nx : Nat} {L S : List MV} {M : MH} {Q : Out → MH → Prop} {a b : Int} (h : Dk Y pc .isub 1 nx) (k : MW Y d nx L (vi (a - b) :: S) M Q) : MW Y d pc L (vi b :: vi a :: S) M Q := by
  intro G M0 p l e R s m args below meth c H locs ls C
  obtain ⟨hd, rfl⟩ := h
  have K := k G M0 p l e R s m args below meth c H locs ls C
  exact lv_isub C.1.1 C.1.2.1 hd (by rw [← Int32.ofInt_sub]; exact K)
theorem mw_imul {Y : MD} {d pc nx : Nat} {L S : List MV} {M : MH} {Q : Out → MH → Prop} {a b : Int} (h : Dk Y pc .imul 1 nx) (k : MW Y d nx L (vi (a * b) :: S) M Q) : MW Y d pc L (vi b :: vi a :: S) M Q := by
  intro G M0 p l e R s m args below meth c H locs ls C
  obtain ⟨hd, rfl⟩ := h
  have K := k G M0 p l e R s m args below meth c H locs ls C
  exact lv_imul C.1.1 C.1.2.1 hd (by rw [← Int32.ofInt_mul]; exact K)
theorem mw_ladd {Y : MD} {d pc nx : Nat} {L S : List MV} {M : MH} {Q : Out → MH → Prop} {a b : Int} (h : Dk Y pc .ladd 1 nx) (k : MW Y d nx L (vl (a + b) :: S) M Q) : MW Y d pc L (vl b :: vl a :: S) M Q := by
  intro G M0 p l e R s m args below meth c H locs ls C
  obtain ⟨hd, rfl⟩ := h
  have K := k G M0 p l e R s m args below meth c H locs ls C
  exact lv_ladd C.1.1 C.1.2.1 hd (by rw [← Int64.ofInt_add]; exact K)
theorem mw_lmul {Y : MD} {d pc nx : Nat} {L S : List MV} {M : MH} {Q : Out → MH → Prop} {a b : Int} (h : Dk Y pc .lmul 1 nx) (k : MW Y d nx L (vl (a * b) :: S) M Q) : MW Y d pc L (vl b :: vl a :: S) M Q := by
  intro G M0 p l e R s m args below meth c H locs ls C
  obtain ⟨hd, rfl⟩ := h
  have K := k G M0 p l e R s m args below meth c H locs ls C
  exact lv_lmul C.1.1 C.1.2.1 hd (by rw [← Int64.ofInt_mul]; exact K)
theorem mw_lsub {Y : MD} {d pc nx : Nat} {L S : List MV} {M : MH} {Q : Out → MH → Prop} {a b : Int} (h : Dk Y pc .lsub 1 nx) (k : MW Y d nx L (vl (a - b) :: S) M Q) : MW Y d pc L (vl b :: vl a :: S) M Q := by
  intro G M0 p l e R s m args below meth c H locs ls C
  obtain ⟨hd, rfl⟩ := h
  have K := k G M0 p l e R s m args below meth c H locs ls C
  exact lv_lsub C.1.1 C.1.2.1 hd (by rw [← Int64.ofInt_sub]; exact K)
theorem mw_iand {Y : MD} {d pc nx : Nat} {L S : List MV} {M : MH} {Q : Out → MH → Prop} {a b : Int} (h : Dk Y pc .iand 1 nx) (k : MW Y d nx L (vi (band a b) :: S) M Q) : MW Y d pc L (vi b :: vi a :: S) M Q := by
  intro G M0 p l e R s m args below meth c H locs ls C
  obtain ⟨hd, rfl⟩ := h
  have K := k G M0 p l e R s m args below meth c H locs ls C
  exact lv_iand C.1.1 C.1.2.1 hd (by
    have K : W p l e R s m args below meth c H locs _ _ _ (F0 m (pc + 1) ls (.int (Int32.ofInt (band a b)) :: S.map (rl G))) := K
    rw [band, Int32.ofInt_toInt] at K
    exact K)
theorem mw_ior {Y : MD} {d pc nx : Nat} {L S : List MV} {M : MH} {Q : Out → MH → Prop} {a b : Int} (h : Dk Y pc .ior 1 nx) (k : MW Y d nx L (vi (bor a b) :: S) M Q) : MW Y d pc L (vi b :: vi a :: S) M Q := by
  intro G M0 p l e R s m args below meth c H locs ls C
  obtain ⟨hd, rfl⟩ := h
  have K := k G M0 p l e R s m args below meth c H locs ls C
  exact lv_ior C.1.1 C.1.2.1 hd (by
    have K : W p l e R s m args below meth c H locs _ _ _ (F0 m (pc + 1) ls (.int (Int32.ofInt (bor a b)) :: S.map (rl G))) := K
    rw [bor, Int32.ofInt_toInt] at K
    exact K)
theorem mw_ixor {Y : MD} {d pc nx : Nat} {L S : List MV} {M : MH} {Q : Out → MH → Prop} {a b : Int} (h : Dk Y pc .ixor 1 nx) (k : MW Y d nx L (vi (bxor a b) :: S) M Q) : MW Y d pc L (vi b :: vi a :: S) M Q := by
  intro G M0 p l e R s m args below meth c H locs ls C
  obtain ⟨hd, rfl⟩ := h
  have K := k G M0 p l e R s m args below meth c H locs ls C
  exact lv_ixor C.1.1 C.1.2.1 hd (by
    have K : W p l e R s m args below meth c H locs _ _ _ (F0 m (pc + 1) ls (.int (Int32.ofInt (bxor a b)) :: S.map (rl G))) := K
    rw [bxor, Int32.ofInt_toInt] at K
    exact K)
theorem mw_ishl {Y : MD} {d pc nx : Nat} {L S : List MV} {M : MH} {Q : Out → MH → Prop} {a b : Int} (h : Dk Y pc .ishl 1 nx) (k : MW Y d nx L (vi (bshl a b) :: S) M Q) : MW Y d pc L (vi b :: vi a :: S) M Q := by
  intro G M0 p l e R s m args below meth c H locs ls C
  obtain ⟨hd, rfl⟩ := h
  have K := k G M0 p l e R s m args below meth c H locs ls C
  exact lv_ishl C.1.1 C.1.2.1 hd (by
    have K : W p l e R s m args below meth c H locs _ _ _ (F0 m (pc + 1) ls (.int (Int32.ofInt (bshl a b)) :: S.map (rl G))) := K
    rw [bshl, Int32.ofInt_toInt] at K
    exact K)
theorem mw_ishr {Y : MD} {d pc nx : Nat} {L S : List MV} {M : MH} {Q : Out → MH → Prop} {a b : Int} (h : Dk Y pc .ishr 1 nx) (k : MW Y d nx L (vi (bshr a b) :: S) M Q) : MW Y d pc L (vi b :: vi a :: S) M Q := by
  intro G M0 p l e R s m args below meth c H locs ls C
  obtain ⟨hd, rfl⟩ := h
  have K := k G M0 p l e R s m args below meth c H locs ls C
  exact lv_ishr C.1.1 C.1.2.1 hd (by
    have K : W p l e R s m args below meth c H locs _ _ _ (F0 m (pc + 1) ls (.int (Int32.ofInt (bshr a b)) :: S.map (rl G))) := K
    rw [bshr, Int32.ofInt_toInt] at K
    exact K)
theorem mw_iushr {Y : MD} {d pc nx : Nat} {L S : List MV} {M : MH} {Q : Out → MH → Prop} {a b : Int} (h : Dk Y pc .iushr 1 nx) (k : MW Y d nx L (vi (bushr a b) :: S) M Q) : MW Y d pc L (vi b :: vi a :: S) M Q := by
  intro G M0 p l e R s m args below meth c H locs ls C
  obtain ⟨hd, rfl⟩ := h
  have K := k G M0 p l e R s m args below meth c H locs ls C
  exact lv_iushr C.1.1 C.1.2.1 hd rfl (by
    have K : W p l e R s m args below meth c H locs _ _ _ (F0 m (pc + 1) ls (.int (Int32.ofInt (bushr a b)) :: S.map (rl G))) := K
    rw [bushr, Int32.ofInt_toInt] at K
    exact K)
theorem mw_idiv {Y : MD} {d pc nx : Nat} {L S : List MV} {M : MH} {Q : Out → MH → Prop} {a b : Int} (h : Dk Y pc .idiv 1 nx) (ha : 0 ≤ a ∧ a ≤ 2147483647) (hb : 0 < b ∧ b ≤ 2147483647) (k : MW Y d nx L (vi (a / b) :: S) M Q) : MW Y d pc L (vi b :: vi a :: S) M Q := by
  intro G M0 p l e R s m args below meth c H locs ls C
  obtain ⟨hd, rfl⟩ := h
  have K := k G M0 p l e R s m args below meth c H locs ls C
  have e : Int32.ofInt (a / b) = Int32.ofInt a / Int32.ofInt b := by
    rw [← Int.tdiv_eq_ediv_of_nonneg ha.1]
    exact Int32.ofInt_tdiv (by show -2147483648 ≤ a; omega) (by show a ≤ 2147483647; omega) (by show -2147483648 ≤ b; omega) (by show b ≤ 2147483647; omega)
  exact lv_idiv C.1.1 C.1.2.1 hd (by rw [i32_0, i32_eq (by omega) (by omega)]; omega) (by rw [← e]; exact K)
theorem mw_irem {Y : MD} {d pc nx : Nat} {L S : List MV} {M : MH} {Q : Out → MH → Prop} {a b : Int} (h : Dk Y pc .irem 1 nx) (ha : 0 ≤ a ∧ a ≤ 2147483647) (hb : 0 < b ∧ b ≤ 2147483647) (k : MW Y d nx L (vi (a % b) :: S) M Q) : MW Y d pc L (vi b :: vi a :: S) M Q := by
  intro G M0 p l e R s m args below meth c H locs ls C
  obtain ⟨hd, rfl⟩ := h
  have K := k G M0 p l e R s m args below meth c H locs ls C
  have e : Int32.ofInt (a / b) = Int32.ofInt a / Int32.ofInt b := by
    rw [← Int.tdiv_eq_ediv_of_nonneg ha.1]
    exact Int32.ofInt_tdiv (by show -2147483648 ≤ a; omega) (by show a ≤ 2147483647; omega) (by show -2147483648 ≤ b; omega) (by show b ≤ 2147483647; omega)
  have e2 : Int32.ofInt (a % b) = Int32.ofInt a - Int32.ofInt a / Int32.ofInt b * Int32.ofInt b := by
    rw [← e, ← Int32.ofInt_mul, ← Int32.ofInt_sub]
    congr 1
    have := Int.emod_add_mul_ediv a b
    rw [Int.mul_comm] at this
    omega
  exact lv_irem C.1.1 C.1.2.1 hd (by rw [i32_0, i32_eq (by omega) (by omega)]; omega) (by rw [← e2]; exact K)
theorem mw_ineg {Y : MD} {d pc nx : Nat} {L S : List MV} {M : MH} {Q : Out → MH → Prop} {a : Int} (h : Dk Y pc .ineg 1 nx) (k : MW Y d nx L (vi (-a) :: S) M Q) : MW Y d pc L (vi a :: S) M Q := by
  intro G M0 p l e R s m args below meth c H locs ls C
  obtain ⟨hd, rfl⟩ := h
  have K := k G M0 p l e R s m args below meth c H locs ls C
  exact lv_ineg C.1.1 C.1.2.1 hd (by rw [← Int32.ofInt_neg]; exact K)
theorem mw_i2l {Y : MD} {d pc nx : Nat} {L S : List MV} {M : MH} {Q : Out → MH → Prop} {a : Int} (h : Dk Y pc .i2l 1 nx) (ha : inR a) (k : MW Y d nx L (vl a :: S) M Q) : MW Y d pc L (vi a :: S) M Q := by
  intro G M0 p l e R s m args below meth c H locs ls C
  obtain ⟨hd, rfl⟩ := h
  have K := k G M0 p l e R s m args below meth c H locs ls C
  exact lv_i2l C.1.1 C.1.2.1 hd (Int32.toInt64_ofInt (by show -2147483648 ≤ a; omega) (by show a ≤ 2147483647; omega)) K
theorem mw_i2b {Y : MD} {d pc nx : Nat} {L S : List MV} {M : MH} {Q : Out → MH → Prop} {a : Int} (h : Dk Y pc .i2b 1 nx) (k : MW Y d nx L (vi (a.bmod 256) :: S) M Q) : MW Y d pc L (vi a :: S) M Q := by
  intro G M0 p l e R s m args below meth c H locs ls C
  obtain ⟨hd, rfl⟩ := h
  have K := k G M0 p l e R s m args below meth c H locs ls C
  exact lv_i2b C.1.1 C.1.2.1 hd (by rw [← Int32.toInt_inj]; simp; exact (bmod_sm (x := a.bmod 256) (by have := Int.le_bmod (x := a) (m := 256) (by decide); omega) (by have := Int.bmod_lt (x := a) (m := 256) (by decide); omega)).symm) K
theorem mw_i2s {Y : MD} {d pc nx : Nat} {L S : List MV} {M : MH} {Q : Out → MH → Prop} {a : Int} (h : Dk Y pc .i2s 1 nx) (k : MW Y d nx L (vi (a.bmod 65536) :: S) M Q) : MW Y d pc L (vi a :: S) M Q := by
  intro G M0 p l e R s m args below meth c H locs ls C
  obtain ⟨hd, rfl⟩ := h
  have K := k G M0 p l e R s m args below meth c H locs ls C
  exact lv_i2s C.1.1 C.1.2.1 hd (by rw [← Int32.toInt_inj]; simp; exact (bmod_sm (x := a.bmod 65536) (by have := Int.le_bmod (x := a) (m := 65536) (by decide); omega) (by have := Int.bmod_lt (x := a) (m := 65536) (by decide); omega)).symm) K
def lcm (a b : Int) : Int := if b < a then 1 else if a = b then 0 else -1
theorem mw_lcmp {Y : MD} {d pc nx : Nat} {L S : List MV} {M : MH} {Q : Out → MH → Prop} {a b : Int} (h : Dk Y pc .lcmp 1 nx) (ha : inR a) (hb : inR b) (k : MW Y d nx L (vi (lcm a b) :: S) M Q) : MW Y d pc L (vl b :: vl a :: S) M Q := by
  intro G M0 p l e R s m args below meth c H locs ls C
  obtain ⟨hd, rfl⟩ := h
  have K := k G M0 p l e R s m args below meth c H locs ls C
  have e : Int32.ofInt (lcm a b) = lg_cmp (Int64.ofInt a) (Int64.ofInt b) := by
    have e1 : (Int64.ofInt b < Int64.ofInt a) ↔ b < a := by
      rw [Int64.lt_iff_toInt_lt, Int64.toInt_ofInt_of_le (by omega) (by omega), Int64.toInt_ofInt_of_le (by omega) (by omega)]
    have e2 : (Int64.ofInt a = Int64.ofInt b) ↔ a = b := by
      rw [← Int64.toInt_inj, Int64.toInt_ofInt_of_le (by omega) (by omega), Int64.toInt_ofInt_of_le (by omega) (by omega)]
    unfold lcm lg_cmp
    by_cases h1 : b < a
    · rw [if_pos h1]; simp [e1, h1]
    · rw [if_neg h1]
      by_cases h2 : a = b
      · simp [h2]
      · simp [e1, e2, h1, h2]
  exact W.lcmp C.1.1 C.1.2.1 hd (by rw [← e]; exact K)
theorem mw_dup {Y : MD} {d pc nx : Nat} {L S : List MV} {M : MH} {Q : Out → MH → Prop} {v : MV} (h : Dk Y pc .dup 1 nx) (hv : mcat v = 1) (k : MW Y d nx L (v :: v :: S) M Q) : MW Y d pc L (v :: S) M Q := by
  intro G M0 p l e R s m args below meth c H locs ls C
  obtain ⟨hd, rfl⟩ := h
  have K := k G M0 p l e R s m args below meth c H locs ls C
  exact lv_dup C.1.1 C.1.2.1 hd (by rw [rl_cat]; exact hv) K
theorem mw_pop {Y : MD} {d pc nx : Nat} {L S : List MV} {M : MH} {Q : Out → MH → Prop} {v : MV} (h : Dk Y pc .pop 1 nx) (hv : mcat v = 1) (k : MW Y d nx L S M Q) : MW Y d pc L (v :: S) M Q := by
  intro G M0 p l e R s m args below meth c H locs ls C
  obtain ⟨hd, rfl⟩ := h
  have K := k G M0 p l e R s m args below meth c H locs ls C
  exact lv_pop C.1.1 C.1.2.1 hd (by rw [rl_cat]; exact hv) K
theorem mw_dup_x1 {Y : MD} {d pc nx : Nat} {L S : List MV} {M : MH} {Q : Out → MH → Prop} {v w : MV} (h : Dk Y pc .dup_x1 1 nx) (hv : mcat v = 1) (hw : mcat w = 1) (k : MW Y d nx L (v :: w :: v :: S) M Q) : MW Y d pc L (v :: w :: S) M Q := by
  intro G M0 p l e R s m args below meth c H locs ls C
  obtain ⟨hd, rfl⟩ := h
  have K := k G M0 p l e R s m args below meth c H locs ls C
  exact lv_dup_x1 C.1.1 C.1.2.1 hd (by rw [rl_cat]; exact hv) (by rw [rl_cat]; exact hw) K
theorem mw_dup2 {Y : MD} {d pc nx : Nat} {L S : List MV} {M : MH} {Q : Out → MH → Prop} {v w : MV} (h : Dk Y pc .dup2 1 nx) (hv : mcat v = 1) (hw : mcat w = 1) (k : MW Y d nx L (v :: w :: v :: w :: S) M Q) : MW Y d pc L (v :: w :: S) M Q := by
  intro G M0 p l e R s m args below meth c H locs ls C
  obtain ⟨hd, rfl⟩ := h
  have K := k G M0 p l e R s m args below meth c H locs ls C
  exact lv_dup2_11 C.1.1 C.1.2.1 hd (by rw [rl_cat]; exact hv) (by rw [rl_cat]; exact hw) K
theorem mw_icmp_eq {Y : MD} {d pc nx : Nat} {L S : List MV} {M : MH} {Q : Out → MH → Prop} {a b off : Int} {tgt : Nat} (h : Dk Y pc (.if_icmp .eq off) 3 nx) (ht : (pc : Int) + off = (tgt : Int)) (ha : inR a) (hb : inR b) (kt : a = b → MW Y d tgt L S M Q) (kf : ¬ a = b → MW Y d nx L S M Q) : MW Y d pc L (vi b :: vi a :: S) M Q := by
  intro G M0 p l e R s m args below meth c H locs ls C
  obtain ⟨hd, rfl⟩ := h
  exact lv_icmp_eq C.1.1 C.1.2.1 hd ht (fun hc => kt ((i32_eq ha hb).mp hc) G M0 p l e R s m args below meth c H locs ls C) (fun hc => kf (fun q => hc ((i32_eq ha hb).mpr q)) G M0 p l e R s m args below meth c H locs ls C)
theorem mw_icmp_ne {Y : MD} {d pc nx : Nat} {L S : List MV} {M : MH} {Q : Out → MH → Prop} {a b off : Int} {tgt : Nat} (h : Dk Y pc (.if_icmp .ne off) 3 nx) (ht : (pc : Int) + off = (tgt : Int)) (ha : inR a) (hb : inR b) (kt : a ≠ b → MW Y d tgt L S M Q) (kf : a = b → MW Y d nx L S M Q) : MW Y d pc L (vi b :: vi a :: S) M Q := by
  intro G M0 p l e R s m args below meth c H locs ls C
  obtain ⟨hd, rfl⟩ := h
  exact lv_icmp_ne C.1.1 C.1.2.1 hd ht (fun hc => kt (fun q => hc ((i32_eq ha hb).mpr q)) G M0 p l e R s m args below meth c H locs ls C) (fun hc => kf ((i32_eq ha hb).mp hc) G M0 p l e R s m args below meth c H locs ls C)
theorem mw_icmp_lt {Y : MD} {d pc nx : Nat} {L S : List MV} {M : MH} {Q : Out → MH → Prop} {a b off : Int} {tgt : Nat} (h : Dk Y pc (.if_icmp .lt off) 3 nx) (ht : (pc : Int) + off = (tgt : Int)) (ha : inR a) (hb : inR b) (kt : a < b → MW Y d tgt L S M Q) (kf : ¬ a < b → MW Y d nx L S M Q) : MW Y d pc L (vi b :: vi a :: S) M Q := by
  intro G M0 p l e R s m args below meth c H locs ls C
  obtain ⟨hd, rfl⟩ := h
  exact lv_icmp_lt C.1.1 C.1.2.1 hd ht (fun hc => kt ((i32_lt ha hb).mp hc) G M0 p l e R s m args below meth c H locs ls C) (fun hc => kf (fun q => hc ((i32_lt ha hb).mpr q)) G M0 p l e R s m args below meth c H locs ls C)
theorem mw_icmp_ge {Y : MD} {d pc nx : Nat} {L S : List MV} {M : MH} {Q : Out → MH → Prop} {a b off : Int} {tgt : Nat} (h : Dk Y pc (.if_icmp .ge off) 3 nx) (ht : (pc : Int) + off = (tgt : Int)) (ha : inR a) (hb : inR b) (kt : b ≤ a → MW Y d tgt L S M Q) (kf : ¬ b ≤ a → MW Y d nx L S M Q) : MW Y d pc L (vi b :: vi a :: S) M Q := by
  intro G M0 p l e R s m args below meth c H locs ls C
  obtain ⟨hd, rfl⟩ := h
  exact lv_icmp_ge C.1.1 C.1.2.1 hd ht (fun hc => kt ((i32_le hb ha).mp hc) G M0 p l e R s m args below meth c H locs ls C) (fun hc => kf (fun q => hc ((i32_le hb ha).mpr q)) G M0 p l e R s m args below meth c H locs ls C)
theorem mw_icmp_gt {Y : MD} {d pc nx : Nat} {L S : List MV} {M : MH} {Q : Out → MH → Prop} {a b off : Int} {tgt : Nat} (h : Dk Y pc (.if_icmp .gt off) 3 nx) (ht : (pc : Int) + off = (tgt : Int)) (ha : inR a) (hb : inR b) (kt : b < a → MW Y d tgt L S M Q) (kf : ¬ b < a → MW Y d nx L S M Q) : MW Y d pc L (vi b :: vi a :: S) M Q := by
  intro G M0 p l e R s m args below meth c H locs ls C
  obtain ⟨hd, rfl⟩ := h
  exact lv_icmp_gt C.1.1 C.1.2.1 hd ht (fun hc => kt ((i32_lt hb ha).mp hc) G M0 p l e R s m args below meth c H locs ls C) (fun hc => kf (fun q => hc ((i32_lt hb ha).mpr q)) G M0 p l e R s m args below meth c H locs ls C)
theorem mw_icmp_le {Y : MD} {d pc nx : Nat} {L S : List MV} {M : MH} {Q : Out → MH → Prop} {a b off : Int} {tgt : Nat} (h : Dk Y pc (.if_icmp .le off) 3 nx) (ht : (pc : Int) + off = (tgt : Int)) (ha : inR a) (hb : inR b) (kt : a ≤ b → MW Y d tgt L S M Q) (kf : ¬ a ≤ b → MW Y d nx L S M Q) : MW Y d pc L (vi b :: vi a :: S) M Q := by
  intro G M0 p l e R s m args below meth c H locs ls C
  obtain ⟨hd, rfl⟩ := h
  exact lv_icmp_le C.1.1 C.1.2.1 hd ht (fun hc => kt ((i32_le ha hb).mp hc) G M0 p l e R s m args below meth c H locs ls C) (fun hc => kf (fun q => hc ((i32_le ha hb).mpr q)) G M0 p l e R s m args below meth c H locs ls C)
theorem mw_if_eq {Y : MD} {d pc nx : Nat} {L S : List MV} {M : MH} {Q : Out → MH → Prop} {a off : Int} {tgt : Nat} (h : Dk Y pc (.ifCond .eq off) 3 nx) (ht : (pc : Int) + off = (tgt : Int)) (ha : inR a) (kt : a = 0 → MW Y d tgt L S M Q) (kf : ¬ a = 0 → MW Y d nx L S M Q) : MW Y d pc L (vi a :: S) M Q := by
  intro G M0 p l e R s m args below meth c H locs ls C
  obtain ⟨hd, rfl⟩ := h
  have h0 : inR 0 := ⟨by decide, by decide⟩
  exact lv_if_eq C.1.1 C.1.2.1 hd ht (fun hc => kt ((i32_eq ha h0).mp hc) G M0 p l e R s m args below meth c H locs ls C) (fun hc => kf (fun q => hc ((i32_eq ha h0).mpr q)) G M0 p l e R s m args below meth c H locs ls C)
theorem mw_if_ne {Y : MD} {d pc nx : Nat} {L S : List MV} {M : MH} {Q : Out → MH → Prop} {a off : Int} {tgt : Nat} (h : Dk Y pc (.ifCond .ne off) 3 nx) (ht : (pc : Int) + off = (tgt : Int)) (ha : inR a) (kt : a ≠ 0 → MW Y d tgt L S M Q) (kf : a = 0 → MW Y d nx L S M Q) : MW Y d pc L (vi a :: S) M Q := by
  intro G M0 p l e R s m args below meth c H locs ls C
  obtain ⟨hd, rfl⟩ := h
  have h0 : inR 0 := ⟨by decide, by decide⟩
  exact lv_if_ne C.1.1 C.1.2.1 hd ht (fun hc => kt (fun q => hc ((i32_eq ha h0).mpr q)) G M0 p l e R s m args below meth c H locs ls C) (fun hc => kf ((i32_eq ha h0).mp hc) G M0 p l e R s m args below meth c H locs ls C)
theorem mw_if_lt {Y : MD} {d pc nx : Nat} {L S : List MV} {M : MH} {Q : Out → MH → Prop} {a off : Int} {tgt : Nat} (h : Dk Y pc (.ifCond .lt off) 3 nx) (ht : (pc : Int) + off = (tgt : Int)) (ha : inR a) (kt : a < 0 → MW Y d tgt L S M Q) (kf : ¬ a < 0 → MW Y d nx L S M Q) : MW Y d pc L (vi a :: S) M Q := by
  intro G M0 p l e R s m args below meth c H locs ls C
  obtain ⟨hd, rfl⟩ := h
  have h0 : inR 0 := ⟨by decide, by decide⟩
  exact lv_if_lt C.1.1 C.1.2.1 hd ht (fun hc => kt ((i32_lt ha h0).mp hc) G M0 p l e R s m args below meth c H locs ls C) (fun hc => kf (fun q => hc ((i32_lt ha h0).mpr q)) G M0 p l e R s m args below meth c H locs ls C)
theorem mw_if_ge {Y : MD} {d pc nx : Nat} {L S : List MV} {M : MH} {Q : Out → MH → Prop} {a off : Int} {tgt : Nat} (h : Dk Y pc (.ifCond .ge off) 3 nx) (ht : (pc : Int) + off = (tgt : Int)) (ha : inR a) (kt : 0 ≤ a → MW Y d tgt L S M Q) (kf : ¬ 0 ≤ a → MW Y d nx L S M Q) : MW Y d pc L (vi a :: S) M Q := by
  intro G M0 p l e R s m args below meth c H locs ls C
  obtain ⟨hd, rfl⟩ := h
  have h0 : inR 0 := ⟨by decide, by decide⟩
  exact lv_if_ge C.1.1 C.1.2.1 hd ht (fun hc => kt ((i32_le h0 ha).mp hc) G M0 p l e R s m args below meth c H locs ls C) (fun hc => kf (fun q => hc ((i32_le h0 ha).mpr q)) G M0 p l e R s m args below meth c H locs ls C)
theorem mw_if_gt {Y : MD} {d pc nx : Nat} {L S : List MV} {M : MH} {Q : Out → MH → Prop} {a off : Int} {tgt : Nat} (h : Dk Y pc (.ifCond .gt off) 3 nx) (ht : (pc : Int) + off = (tgt : Int)) (ha : inR a) (kt : 0 < a → MW Y d tgt L S M Q) (kf : ¬ 0 < a → MW Y d nx L S M Q) : MW Y d pc L (vi a :: S) M Q := by
  intro G M0 p l e R s m args below meth c H locs ls C
  obtain ⟨hd, rfl⟩ := h
  have h0 : inR 0 := ⟨by decide, by decide⟩
  exact lv_if_gt C.1.1 C.1.2.1 hd ht (fun hc => kt ((i32_lt h0 ha).mp hc) G M0 p l e R s m args below meth c H locs ls C) (fun hc => kf (fun q => hc ((i32_lt h0 ha).mpr q)) G M0 p l e R s m args below meth c H locs ls C)
theorem mw_if_le {Y : MD} {d pc nx : Nat} {L S : List MV} {M : MH} {Q : Out → MH → Prop} {a off : Int} {tgt : Nat} (h : Dk Y pc (.ifCond .le off) 3 nx) (ht : (pc : Int) + off = (tgt : Int)) (ha : inR a) (kt : a ≤ 0 → MW Y d tgt L S M Q) (kf : ¬ a ≤ 0 → MW Y d nx L S M Q) : MW Y d pc L (vi a :: S) M Q := by
  intro G M0 p l e R s m args below meth c H locs ls C
  obtain ⟨hd, rfl⟩ := h
  have h0 : inR 0 := ⟨by decide, by decide⟩
  exact lv_if_le C.1.1 C.1.2.1 hd ht (fun hc => kt ((i32_le ha h0).mp hc) G M0 p l e R s m args below meth c H locs ls C) (fun hc => kf (fun q => hc ((i32_le ha h0).mpr q)) G M0 p l e R s m args below meth c H locs ls C)
theorem mw_goto {Y : MD} {d pc nx : Nat} {L S : List MV} {M : MH} {Q : Out → MH → Prop} {off : Int} {tgt : Nat} (h : Dk Y pc (.goto off) 3 nx) (ht : (pc : Int) + off = (tgt : Int)) (k : MW Y d tgt L S M Q) : MW Y d pc L S M Q := by
  intro G M0 p l e R s m args below meth c H locs ls C
  obtain ⟨hd, rfl⟩ := h
  exact lv_goto C.1.1 C.1.2.1 hd ht (k G M0 p l e R s m args below meth c H locs ls C)
theorem mw_ifnull {Y : MD} {d pc nx : Nat} {L S : List MV} {M : MH} {Q : Out → MH → Prop} {r : Option Nat} {off : Int} {tgt : Nat} (h : Dk Y pc (.ifnull off) 3 nx) (ht : (pc : Int) + off = (tgt : Int)) (kt : r = none → MW Y d tgt L S M Q) (kf : ∀ q, r = some q → MW Y d nx L S M Q) : MW Y d pc L (vr r :: S) M Q := by
  intro G M0 p l e R s m args below meth c H locs ls C
  obtain ⟨hd, rfl⟩ := h
  cases r with
  | none => exact lv_ifnullN C.1.1 C.1.2.1 hd ht (kt rfl G M0 p l e R s m args below meth c H locs ls C)
  | some q => exact lv_ifnull C.1.1 C.1.2.1 hd (kf q rfl G M0 p l e R s m args below meth c H locs ls C)
theorem mw_ifnonnull {Y : MD} {d pc nx : Nat} {L S : List MV} {M : MH} {Q : Out → MH → Prop} {r : Option Nat} {off : Int} {tgt : Nat} (h : Dk Y pc (.ifnonnull off) 3 nx) (ht : (pc : Int) + off = (tgt : Int)) (kt : ∀ q, r = some q → MW Y d tgt L S M Q) (kf : r = none → MW Y d nx L S M Q) : MW Y d pc L (vr r :: S) M Q := by
  intro G M0 p l e R s m args below meth c H locs ls C
  obtain ⟨hd, rfl⟩ := h
  cases r with
  | none => exact lv_ifnonnullN C.1.1 C.1.2.1 hd (kf rfl G M0 p l e R s m args below meth c H locs ls C)
  | some q => exact lv_ifnonnull C.1.1 C.1.2.1 hd ht (kt q rfl G M0 p l e R s m args below meth c H locs ls C)
theorem mw_tableOut {Y : MD} {d pc nx : Nat} {L S : List MV} {M : MH} {Q : Out → MH → Prop} {a dflt lo hi : Int} {offs : Array Int} {len tgt : Nat} (h : Dk Y pc (.tableswitch dflt lo hi offs) len nx) (ht : (pc : Int) + dflt = (tgt : Int)) (ha : inR a) (hc : a < lo ∨ hi < a) (k : MW Y d tgt L S M Q) : MW Y d pc L (vi a :: S) M Q := by
  intro G M0 p l e R s m args below meth c H locs ls C
  obtain ⟨hd, rfl⟩ := h
  exact lv_tableOut C.1.1 C.1.2.1 hd (by rw [Int32.toInt_ofInt_of_le (by omega) (by omega)]; exact hc) ht (k G M0 p l e R s m args below meth c H locs ls C)
theorem mw_tableIn {Y : MD} {d pc nx : Nat} {L S : List MV} {M : MH} {Q : Out → MH → Prop} {a dflt lo hi off : Int} {offs : Array Int} {len tgt : Nat} (h : Dk Y pc (.tableswitch dflt lo hi offs) len nx) (ha : inR a) (hc : lo ≤ a ∧ a ≤ hi) (ho : offs[(a - lo).toNat]? = some off) (ht : (pc : Int) + off = (tgt : Int)) (k : MW Y d tgt L S M Q) : MW Y d pc L (vi a :: S) M Q := by
  intro G M0 p l e R s m args below meth c H locs ls C
  obtain ⟨hd, rfl⟩ := h
  have e9 : (Int32.ofInt a).toInt = a := Int32.toInt_ofInt_of_le (by omega) (by omega)
  exact lv_tableIn C.1.1 C.1.2.1 hd (by rw [e9]; omega) (by rw [e9]; omega) (by rw [e9]; exact ho) ht (k G M0 p l e R s m args below meth c H locs ls C)
theorem mw_lookup {Y : MD} {d pc nx : Nat} {L S : List MV} {M : MH} {Q : Out → MH → Prop} {a dflt off : Int} {ps : Array (Int × Int)} {len tgt : Nat} (h : Dk Y pc (.lookupswitch dflt ps) len nx) (hp : (ps.toList.zip (ps.toList.drop 1)).all (fun (a, next) => a.1 < next.1) = true) (ha : inR a) (ho : Op.lookupswitch.offset ps.toList dflt a = off) (ht : (pc : Int) + off = (tgt : Int)) (k : MW Y d tgt L S M Q) : MW Y d pc L (vi a :: S) M Q := by
  intro G M0 p l e R s m args below meth c H locs ls C
  obtain ⟨hd, rfl⟩ := h
  have e9 : (Int32.ofInt a).toInt = a := Int32.toInt_ofInt_of_le (by omega) (by omega)
  exact lv_lookup C.1.1 C.1.2.1 hd hp (by rw [e9]; exact ho) ht (k G M0 p l e R s m args below meth c H locs ls C)
theorem mw_ireturn {Y : MD} {d pc nx : Nat} {L : List MV} {M : MH} {Q : Out → MH → Prop} {z : Int} (h : Dk Y pc .ireturn 1 nx) (hr : mret Y = some .int) (hq : Q (.inl (some (vi z))) M) : MW Y d pc L [vi z] M Q := by
  intro G M0 p l e R s m args below meth c H locs ls C
  obtain ⟨hd, rfl⟩ := h
  refine W.mono (Q := MQ below (fun _ _ o t => o = outO G (.inl (some (vi z))) ∧ t.heap = H) args s (mhn M - mhn M0) (mhs M - mhs M0) (fun a => gb0 G ≤ a)) ?_ ?_
  · exact W.iret C.1.1 C.1.2.1 (C.1.2.2.1.trans hr) (fun t ht _ => ⟨rfl, ht⟩) C.2.2.2.1 hd (hlocks := C.1.2.2.2.2.2.2.1)
  · rintro t ⟨o, a1, a2, ⟨rfl, a3⟩, L', ⟨-, a4, a5⟩, a6⟩
    exact ⟨_, M, L', a1, a2, hq, by rw [a3]; exact C.2.1, C.2.2.2.2.1, C.2.2.2.2.2, a4, a5, a6⟩
theorem mw_zreturn {Y : MD} {d pc nx : Nat} {L : List MV} {M : MH} {Q : Out → MH → Prop} {z : Int} (h : Dk Y pc .ireturn 1 nx) (hr : mret Y = some .boolean) (hz : z = 0 ∨ z = 1) (hq : Q (.inl (some (vi z))) M) : MW Y d pc L [vi z] M Q := by
  intro G M0 p l e R s m args below meth c H locs ls C
  obtain ⟨hd, rfl⟩ := h
  refine W.mono (Q := MQ below (fun _ _ o t => o = outO G (.inl (some (vi z))) ∧ t.heap = H) args s (mhn M - mhn M0) (mhs M - mhs M0) (fun a => gb0 G ≤ a)) ?_ ?_
  · exact W.zret C.1.1 C.1.2.1 (C.1.2.2.1.trans hr) (by rcases hz with rfl | rfl <;> rfl) (fun t ht _ => ⟨rfl, ht⟩) C.2.2.2.1 hd (hlocks := C.1.2.2.2.2.2.2.1)
  · rintro t ⟨o, a1, a2, ⟨rfl, a3⟩, L', ⟨-, a4, a5⟩, a6⟩
    exact ⟨_, M, L', a1, a2, hq, by rw [a3]; exact C.2.1, C.2.2.2.2.1, C.2.2.2.2.2, a4, a5, a6⟩
theorem mw_vreturn {Y : MD} {d pc nx : Nat} {L : List MV} {M : MH} {Q : Out → MH → Prop}  (h : Dk Y pc .return_ 1 nx) (hr : mret Y = none) (hq : Q (.inl none) M) : MW Y d pc L [] M Q := by
  intro G M0 p l e R s m args below meth c H locs ls C
  obtain ⟨hd, rfl⟩ := h
  refine W.mono (Q := MQ below (fun _ _ o t => o = outO G (.inl none) ∧ t.heap = H) args s (mhn M - mhn M0) (mhs M - mhs M0) (fun a => gb0 G ≤ a)) ?_ ?_
  · exact W.vret C.1.1 C.1.2.1 (C.1.2.2.1.trans hr) (fun t ht _ => ⟨rfl, ht⟩) C.2.2.2.1 hd (hlocks := C.1.2.2.2.2.2.2.1)
  · rintro t ⟨o, a1, a2, ⟨rfl, a3⟩, L', ⟨-, a4, a5⟩, a6⟩
    exact ⟨_, M, L', a1, a2, hq, by rw [a3]; exact C.2.1, C.2.2.2.2.1, C.2.2.2.2.2, a4, a5, a6⟩
theorem mw_lreturn {Y : MD} {d pc nx : Nat} {L : List MV} {M : MH} {Q : Out → MH → Prop} {z : Int} (h : Dk Y pc .lreturn 1 nx) (hr : mret Y = some .long) (hq : Q (.inl (some (vl z))) M) : MW Y d pc L [vl z] M Q := by
  intro G M0 p l e R s m args below meth c H locs ls C
  obtain ⟨hd, rfl⟩ := h
  refine W.mono (Q := MQ below (fun _ _ o t => o = outO G (.inl (some (vl z))) ∧ t.heap = H) args s (mhn M - mhn M0) (mhs M - mhs M0) (fun a => gb0 G ≤ a)) ?_ ?_
  · exact W.lret C.1.1 C.1.2.1 (C.1.2.2.1.trans hr) (fun t ht _ => ⟨rfl, ht⟩) C.2.2.2.1 hd (hlocks := C.1.2.2.2.2.2.2.1)
  · rintro t ⟨o, a1, a2, ⟨rfl, a3⟩, L', ⟨-, a4, a5⟩, a6⟩
    exact ⟨_, M, L', a1, a2, hq, by rw [a3]; exact C.2.1, C.2.2.2.2.1, C.2.2.2.2.2, a4, a5, a6⟩
theorem mw_areturn {Y : MD} {d pc nx : Nat} {L : List MV} {M : MH} {Q : Out → MH → Prop} {r : Option Nat} {rt : FieldType} (h : Dk Y pc .areturn 1 nx) (hr : mret Y = some rt) (hrt : (∃ n, rt = .object n) ∨ ∃ t, rt = .array t) (hq : Q (.inl (some (vr r))) M) : MW Y d pc L [vr r] M Q := by
  intro G M0 p l e R s m args below meth c H locs ls C
  obtain ⟨hd, rfl⟩ := h
  refine W.mono (Q := MQ below (fun _ _ o t => o = outO G (.inl (some (vr r))) ∧ t.heap = H) args s (mhn M - mhn M0) (mhs M - mhs M0) (fun a => gb0 G ≤ a)) ?_ ?_
  · exact W.aret C.1.1 C.1.2.1 (C.1.2.2.1.trans hr) hrt (by cases r with
    | none => exact Or.inl rfl
    | some q => exact Or.inr ⟨_, rfl⟩) (fun t ht _ => ⟨rfl, ht⟩) C.2.2.2.1 hd (hlocks := C.1.2.2.2.2.2.2.1)
  · rintro t ⟨o, a1, a2, ⟨rfl, a3⟩, L', ⟨-, a4, a5⟩, a6⟩
    exact ⟨_, M, L', a1, a2, hq, by rw [a3]; exact C.2.1, C.2.2.2.2.1, C.2.2.2.2.2, a4, a5, a6⟩
