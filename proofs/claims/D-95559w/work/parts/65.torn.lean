/-! THE CONSTRUCTOR OF THROWABLE, with nothing in it: two fields point outside for a while -/
/-- the heap holds M, but for the cell b, which holds U -/
def RB (G : GH) (M : MH) (b : Nat) (U : Nat → Value) (H : Heap) : Prop := ∃ H0 : Heap, Rel G M H0 ∧ H.size = H0.size ∧ (∀ q, q ≠ rho G b → H[q]? = H0[q]?) ∧ t_OB (rho G b) ((gD G).1 9) 7 ((gD G).2 9) H U
theorem RB.of {G : GH} {M : MH} {H : Heap} (h : Rel G M H) {b : Nat} (hs : (msh M b).1 = 9) : RB G M b (mfv G M 9 b) H := ⟨H, h, rfl, fun _ _ => rfl, h.obj (ci := 9) rfl hs⟩
theorem RB.to {G : GH} {M : MH} {H : Heap} {b : Nat} {U : Nat → Value} (h : RB G M b U H) (hs : (msh M b).1 = 9) (hu : ∀ k, k < 7 → U k = mfv G M 9 b k) : Rel G M H := by
  obtain ⟨H0, h1, h2, h3, h4⟩ := h
  exact h1.put (h1.ge (p := b) (by omega)) rfl rfl rfl (fun _ _ => rfl) (fun _ _ => rfl) h2 h3 (CellOK.ofObj (ci := 9) rfl hs (h4.to hu))
theorem RB.low {G : GH} {M : MH} {H : Heap} {b : Nat} {U : Nat → Value} (h : RB G M b U H) (hs : (msh M b).1 = 9) {q : Nat} (hq : q < gb0 G) : H[q]? = (gH0 G)[q]? := by
  obtain ⟨H0, h1, h2, h3, h4⟩ := h
  rw [h3 q (by rw [rho_ge (h1.ge (p := b) (by omega))]; omega)]
  exact h1.2.2.1 q hq
set_option maxHeartbeats 2000000 in
theorem raw_put {Y : MD} {d pc k idx b : Nat} {M : MH} {Q : Out → MH → Prop} (hd : decode (mcc Y) pc = .ok (.putfield idx, 3)) (hF : PutAt Y idx 9 k) (hk5 : k < 5) (hs : (msh M b).1 = 9) {v : Value} (hv : v = .null ∨ ∃ r, v = .ref r)
    {G : GH} {M0 : MH} {p : Program} {l : Launch} {e : Env} {R : Room} {s : State} {m : MethodId} {args : Array Value} {below : List Frame} {meth : Method} {c : Code} {H : Heap} {locs : List Loc} {ls : Array Slot} {st : List Value} {U : Nat → Value}
    (C : CxOK Y d G M0 p l R s m args meth c) (hR : RB G M b U H) (hlo : ∀ q ∈ locs, gb0 G ≤ q.base)
    (K : ∀ (H' : Heap) (locs' : List Loc), RB G M b (updV U k v) H' → (∀ q ∈ locs', gb0 G ≤ q.base) → W p l e R s m args below meth c H' locs' (mhn M - mhn M0) (mhs M - mhs M0) (FinE G s below M0 Q) (F0 m (pc + 3) ls st)) :
    W p l e R s m args below meth c H locs (mhn M - mhn M0) (mhs M - mhs M0) (FinE G s below M0 Q) (F0 m pc ls (v :: .ref (rho G b) :: st)) := by
  obtain ⟨r, hc, hk, hlink⟩ := hF
  have er : r = (RX8, TX8, 7) := by cases hc; rfl
  subst er
  obtain ⟨hexec, hb, -, -, hown, hts, -, hmn, hK, -⟩ := C
  obtain ⟨H0, h1, h2, h3, cell, q1, q2, q3, q4⟩ := hR
  have hp2 : 2 ≤ b := h1.ge (p := b) (by omega)
  have hap := va_apart (own := (my Y).cls) hts (mcl_in 9 _ hc) (mty 9) (mcl_ty 9 _ hc) (mcl_nm 9 _ hc) hK.1 hc
  obtain ⟨hS, hfc, kC, hkC, hkind⟩ := hK.1.1 9 _ hc
  obtain ⟨cf, kf, fi, f, hi, hsl⟩ := hS k hk
  have hst := (u_facts hfc hkC (u_lays hts (mcl_in 9 _ hc) hk) hi).1
  have hlay := hts _ (mcl_in 9 _ hc _ (u_in_lay hk))
  have hty : (∃ n, mty 9 k = .object n) ∨ ∃ t, mty 9 k = .array t := by
    obtain rfl | rfl | rfl | rfl | rfl : k = 0 ∨ k = 1 ∨ k = 2 ∨ k = 3 ∨ k = 4 := by omega
    · exact Or.inl ⟨_, rfl⟩
    · exact Or.inr ⟨_, rfl⟩
    · exact Or.inl ⟨_, rfl⟩
    · exact Or.inl ⟨_, rfl⟩
    · exact Or.inl ⟨_, rfl⟩
  have hn : narrow (mty 9 k) v = v := by
    rcases hty with ⟨n, e⟩ | ⟨t, e⟩ <;> rw [e] <;> rcases hv with rfl | ⟨r, rfl⟩ <;> rfl
  have hfit : fits (mty 9 k) v = true := by
    rcases hty with ⟨n, e⟩ | ⟨t, e⟩ <;> rw [e] <;> rcases hv with rfl | ⟨r, rfl⟩ <;> rfl
  have fin : ∀ (H' : Heap), H'[rho G b]? = some (cell.setSlot f.slot v) → H'.size = H.size → (∀ q, q ≠ rho G b → H'[q]? = H[q]?) → W p l e R s m args below meth c H' (locs ++ [⟨rho G b, f.slot⟩]) (mhn M - mhn M0) (mhs M - mhs M0) (FinE G s below M0 Q) (F0 m (pc + 3) ls st) := by
    intro H' g1 g2 g3
    rw [hsl] at g1
    refine K H' _ ⟨H0, h1, g2.trans h2, fun q hq => (g3 q hq).trans (h3 q hq), _, g1, q2, q3, t_set q4 hap hk v⟩ (fun q hq => ?_)
    rcases List.mem_append.mp hq with h | h
    · exact hlo q h
    · rw [List.mem_singleton.mp h]
      show gb0 G ≤ rho G b
      rw [rho_ge hp2]; omega
  rcases hlink with ⟨hf, hlk⟩ | ⟨hf, -⟩
  · unfold u_lay at hlay
    rw [if_neg (by rw [hf]; decide)] at hlay
    have h6 := u_store hfc hkC hkind hlay hi (mcl_ty 9 _ hc k hk) hn hfit
    have h6' : k2_Sd s f cell.cls v := by rw [q2]; exact h6
    have hltc : f.slot < cell.slots.size := by rw [hsl]; exact k2_hasslot (q4 k hk)
    rcases hlk with hl1 | ⟨ref, hl1, hsm⟩ | ⟨host, hl1⟩
    · exact W.putK hexec hb (f := f) ⟨hown, hts _ hl1, ⟨_, _, _, hi⟩, hst⟩ h6' q1 q3 hltc rfl rfl hd fin
    · exact W.putK hexec hb (f := f) ⟨hown, hts _ hl1, ⟨_, _, _, u_same (hts _ hsm) _ hi⟩, hst⟩ h6' q1 q3 hltc rfl rfl hd fin
    · exact va_WputK hexec hb (f := f) hown (va_Nw.use rfl (hK.2.1 _ hl1)) hi hst h6' q1 q3 hltc rfl rfl hd fin
  · exfalso
    obtain rfl | rfl | rfl | rfl | rfl : k = 0 ∨ k = 1 ∨ k = 2 ∨ k = 3 ∨ k = 4 := by omega
    all_goals exact absurd hf (by decide)
/-- the statics of Throwable -/
theorem KX.st {G : GH} {s : State} (h : KX G s) {n d : String} (hr : ∀ a0 s0, narrow_1.before a0 s0 = true → ∃ v, (v = .null ∨ ∃ r, v = .ref r) ∧ (Term.static "java/lang/Throwable" n d).eval a0 s0 none [] s0 = some v) (hl : Cond.laysStatic "java/lang/Throwable" n d ∈ tables_1) (hin : Cond.initialized "java/lang/Throwable" ∈ tables_1) : ∃ v, (v = .null ∨ ∃ r, v = .ref r) ∧ va_Z "java/lang/Throwable" n d v (fun a => gb0 G ≤ a) s (gH0 G) := by
  obtain ⟨s0, a0, k1, k2, k3, k4, k5, k6⟩ := h
  obtain ⟨v, hv, e⟩ := hr a0 s0 k4
  refine ⟨v, hv, ?_⟩
  have z := va_Zof (A := fun a => gb0 G ≤ a) (k6 _ hl) (k6 _ hin) e (fun a ha hb => by rw [← k3] at hb; exact absurd ha (Nat.not_lt.mpr hb))
  rw [k2] at z
  exact va_Z.moved k1 z
theorem isRef_v {args : Array Value} {s : State} {t : Term} (h : (Cond.isRef t).before args s = true) : ∃ v : Value, (v = .null ∨ ∃ r, v = .ref r) ∧ t.eval args s none [] s = some v := by
  have h : (Cond.isRef t).holds args s none s [] = true := h
  cases hv : t.eval args s none [] s with
  | none => simp [Cond.holds, Cond.value, hv] at h
  | some v =>
    refine ⟨v, ?_, rfl⟩
    cases v with
    | ref r => exact Or.inr ⟨r, rfl⟩
    | null => exact Or.inl rfl
    | _ => simp [Cond.holds, Cond.value, hv] at h
theorem nw_u {args : Array Value} {s : State} (h : narrow_1.before args s = true) : (Cond.isRef (.static "java/lang/Throwable" "UNASSIGNED_STACK" "[Ljava/lang/StackTraceElement;")).before args s = true := flat_of_before _ h _ (by decide +kernel)
theorem nw_s {args : Array Value} {s : State} (h : narrow_1.before args s = true) : (Cond.isRef (.static "java/lang/Throwable" "SUPPRESSED_SENTINEL" "Ljava/util/List;")).before args s = true := flat_of_before _ h _ (by decide +kernel)
theorem KX.u {G : GH} {s : State} (h : KX G s) : ∃ v : Value, (v = .null ∨ ∃ r, v = .ref r) ∧ va_Z "java/lang/Throwable" "UNASSIGNED_STACK" "[Ljava/lang/StackTraceElement;" v (fun a => gb0 G ≤ a) s (gH0 G) :=
  h.st (fun a0 s0 k => isRef_v (nw_u k)) (lw_t2 (List.mem_of_getElem? (i := 111) rfl)) (lw_t1 (List.mem_of_getElem? (i := 12) rfl))
theorem KX.s {G : GH} {s : State} (h : KX G s) : ∃ v : Value, (v = .null ∨ ∃ r, v = .ref r) ∧ va_Z "java/lang/Throwable" "SUPPRESSED_SENTINEL" "Ljava/util/List;" v (fun a => gb0 G ≤ a) s (gH0 G) :=
  h.st (fun a0 s0 k => isRef_v (nw_s k)) (lw_t2 (List.mem_of_getElem? (i := 113) rfl)) (lw_t1 (List.mem_of_getElem? (i := 12) rfl))
set_option maxHeartbeats 4000000 in
/-- Throwable(null, null, false, false) leaves all as it was -/
theorem sp_J3_init_2 {d b : Nat} {M : MH} (hs : (msh M b).1 = 9) (hz : ∀ k, k < 5 → mrv M b k = none) : MCv mJ3_init_2 (d + 1) [vp b, vr none, vr none, vi 0, vi 0] M (fun M' => M' = M) := by
  refine mc_of (L := [vp b, vr none, vr none, vi 0, vi 0]) (by decide +kernel) (Nat.le_of_ble_eq_true rfl) rfl ?_
  refine iJ3_init_2_0 (iJ3_init_2_1 ?_)
  intro G M0 p l e R s m args below meth c H locs ls C
  have C0 := C.1
  have hcx := C.1
  obtain ⟨hexec, hb, hr, hml, hown, hts, hlk, hnm, hK, hroom, hex, hlaw⟩ := hcx
  have l0 : ls[0]? = some (.val (.ref (rho G b))) := C.2.2.1.2.2 0 (vp b) rfl (by simp)
  have l1 : ls[1]? = some (.val .null) := C.2.2.1.2.2 1 (vr none) rfl (by simp)
  have l2 : ls[2]? = some (.val .null) := C.2.2.1.2.2 2 (vr none) rfl (by simp)
  have l3 : ls[3]? = some (.val (.int (Int32.ofInt 0))) := C.2.2.1.2.2 3 (vi 0) rfl (by simp)
  have l4 : ls[4]? = some (.val (.int (Int32.ofInt 0))) := C.2.2.1.2.2 4 (vi 0) rfl (by simp)
  obtain ⟨u0, hu0, cf, kf, fi, f, a, cell, z1, z2, z3, z4, z5, z6, z7, z8⟩ := hK.2.2.2.2.2.u
  obtain ⟨u1, hu1, cf', kf', fi', f', a', cell', y1, y2, y3, y4, y5, y6, y7, y8⟩ := hK.2.2.2.2.2.s
  refine lv_aload_n hexec hb dJ3_init_2_4 rfl l0 (lv_aload_n hexec hb dJ3_init_2_5 rfl l0 ?_)
  refine raw_put (b := b) (k := 0) dJ3_init_2_6 ⟨_, rfl, Nat.le_of_ble_eq_true rfl, Or.inl ⟨rfl, Or.inl q468⟩⟩ (by decide) hs (Or.inr ⟨_, rfl⟩) C0 (RB.of C.2.1 hs) C.2.2.2.1 (fun H1 locs1 R1 o1 => ?_)
  refine lv_aload_n hexec hb dJ3_init_2_9 rfl l0 ?_
  refine W.gets hexec hb hown (hts _ q439) z1 z2 z3 z4 (by rw [R1.low hs (by omega)]; exact z5) (fun e => by rw [e] at z6; cases z6) z7 rfl dJ3_init_2_10 ?_
  refine raw_put (b := b) (k := 1) dJ3_init_2_13 ⟨_, rfl, Nat.le_of_ble_eq_true rfl, Or.inl ⟨rfl, Or.inl q469⟩⟩ (by decide) hs hu0 C0 R1 o1 (fun H2 locs2 R2 o2 => ?_)
  refine lv_aload_n hexec hb dJ3_init_2_16 rfl l0 ?_
  refine W.gets hexec hb hown (hts _ q441) y1 y2 y3 y4 (by rw [R2.low hs (by omega)]; exact y5) (fun e => by rw [e] at y6; cases y6) y7 rfl dJ3_init_2_17 ?_
  refine raw_put (b := b) (k := 2) dJ3_init_2_20 ⟨_, rfl, Nat.le_of_ble_eq_true rfl, Or.inl ⟨rfl, Or.inl q470⟩⟩ (by decide) hs hu1 C0 R2 o2 (fun H3 locs3 R3 o3 => ?_)
  refine lv_iload hexec hb dJ3_init_2_23 l4 (lv_if_eq (tgt := 36) hexec hb dJ3_init_2_25 rfl (fun _ => ?_) (fun q => absurd rfl q))
  refine lv_aload_n hexec hb dJ3_init_2_36 rfl l0 (lv_null hexec hb dJ3_init_2_37 ?_)
  refine raw_put (b := b) (k := 1) dJ3_init_2_38 ⟨_, rfl, Nat.le_of_ble_eq_true rfl, Or.inl ⟨rfl, Or.inl q469⟩⟩ (by decide) hs (Or.inl rfl) C0 R3 o3 (fun H4 locs4 R4 o4 => ?_)
  refine lv_aload_n hexec hb dJ3_init_2_41 rfl l0 (lv_aload_nN hexec hb dJ3_init_2_42 rfl l1 ?_)
  refine raw_put (b := b) (k := 3) dJ3_init_2_43 ⟨_, rfl, Nat.le_of_ble_eq_true rfl, Or.inl ⟨rfl, Or.inl q467⟩⟩ (by decide) hs (Or.inl rfl) C0 R4 o4 (fun H5 locs5 R5 o5 => ?_)
  refine lv_aload_n hexec hb dJ3_init_2_46 rfl l0 (lv_aload_nN hexec hb dJ3_init_2_47 rfl l2 ?_)
  refine raw_put (b := b) (k := 0) dJ3_init_2_48 ⟨_, rfl, Nat.le_of_ble_eq_true rfl, Or.inl ⟨rfl, Or.inl q468⟩⟩ (by decide) hs (Or.inl rfl) C0 R5 o5 (fun H6 locs6 R6 o6 => ?_)
  refine lv_iload_n hexec hb dJ3_init_2_51 rfl l3 (lv_if_ne (tgt := 60) hexec hb dJ3_init_2_52 rfl (fun q => absurd rfl q) (fun _ => ?_))
  refine lv_aload_n hexec hb dJ3_init_2_55 rfl l0 (lv_null hexec hb dJ3_init_2_56 ?_)
  refine raw_put (b := b) (k := 2) dJ3_init_2_57 ⟨_, rfl, Nat.le_of_ble_eq_true rfl, Or.inl ⟨rfl, Or.inl q470⟩⟩ (by decide) hs (Or.inl rfl) C0 R6 o6 (fun H7 locs7 R7 o7 => ?_)
  have hR : Rel G M H7 := R7.to hs (fun k hk => by
    have n0 : ∀ j, j < 5 → mfv G M 9 b j = .null := fun j hj => by
      obtain rfl | rfl | rfl | rfl | rfl : j = 0 ∨ j = 1 ∨ j = 2 ∨ j = 3 ∨ j = 4 := by omega
      all_goals (unfold mfv; rw [hz _ (by decide)]; rfl)
    have e0 := n0 0 (by decide)
    have e1 := n0 1 (by decide)
    have e2 := n0 2 (by decide)
    have e3 := n0 3 (by decide)
    obtain rfl | rfl | rfl | rfl | hk' : k = 0 ∨ k = 1 ∨ k = 2 ∨ k = 3 ∨ 3 < k := by omega
    · rw [e0]; rfl
    · rw [e1]; rfl
    · rw [e2]; rfl
    · rw [e3]; rfl
    · have ne : ∀ (U : Nat → Value) (j : Nat) (v : Value), j ≤ 3 → updV U j v k = U k := fun U j v hj => by unfold updV; rw [if_neg (by omega)]
      rw [ne _ _ _ (by decide), ne _ _ _ (by decide), ne _ _ _ (by decide), ne _ _ _ (by decide), ne _ _ _ (by decide), ne _ _ _ (by decide), ne _ _ _ (by decide)])
  exact iJ3_init_2_60 (d := d + 1) (L := [vp b, vr none, vr none, vi 0, vi 0]) (P := fun M' => M' = M) rfl G M0 p l e R s m args below meth c H7 locs7 ls ⟨C0, hR, C.2.2.1, o7, C.2.2.2.2.1, C.2.2.2.2.2⟩
theorem sp_J4_init {d b : Nat} {M : MH} (hs : (msh M b).1 = 9) (hz : ∀ k, k < 5 → mrv M b k = none) : MCv mJ4_init (d + 2) [vp b, vr none, vr none, vi 0, vi 0] M (fun M' => M' = M) := by
  refine mc_of (L := [vp b, vr none, vr none, vi 0, vi 0]) (by decide +kernel) (Nat.le_of_ble_eq_true rfl) rfl ?_
  refine iJ4_init_0 (iJ4_init_1 (mw_aload_n ⟨dJ4_init_2, rfl⟩ rfl (iJ4_init_3 (iJ4_init_4 (iJ4_init_6 (sp_J3_init_2 (d := d) hs hz) ?_)))))
  rintro M' rfl
  exact iJ4_init_9 rfl
/-- a new Torn -/
def tornH (M : MH) (k : Int) : MH := wI (wN M 9 7) (mhn M) 6 k
theorem sp_X8_init {d : Nat} {M : MH} {k : Int} : MCv mX8_init (d + 3) [vp (mhn M), vi k] (wN M 9 7) (fun M' => M' = tornH M k) := by
  have hs : (msh (wN M 9 7) (mhn M)).1 = 9 := by rw [msh_wN]
  refine mc_of (L := [vp (mhn M), vi k]) (by decide +kernel) (Nat.le_of_ble_eq_true rfl) rfl ?_
  refine iX8_init_0 (iX8_init_1 (iX8_init_2 (iX8_init_3 (iX8_init_4 (iX8_init_5 (sp_J4_init (d := d) hs (fun k _ => ?_)) ?_)))))
  · simp [mrv, wN]
  rintro M' rfl
  exact iX8_init_8 (iX8_init_9 (iX8_init_10 hs (iX8_init_13 rfl)))
