/-! ROWS OVER THE HEAP: fields, arrays, new cells -/
def FieldAt (own : String) (idx ci k : Nat) : Prop := ∃ r : vw_C, mcl[ci]? = some r ∧ k < r.2.2 ∧
  (Cond.fieldLink own idx (r.2.1 k).1 (r.2.1 k).2.1 (r.2.1 k).2.2.1 ∈ lw_all ∨
   (∃ ref, Cond.fieldLink own idx ref (r.2.1 k).2.1 (r.2.1 k).2.2.1 ∈ lw_all ∧ Cond.sameField ref (r.2.1 k).1 (r.2.1 k).2.1 (r.2.1 k).2.2.1 ∈ lw_all) ∨
   ∃ host, Cond.fieldLinkNest own idx (r.2.1 k).1 (r.2.1 k).2.1 (r.2.1 k).2.2.1 host ∈ lw_big)
theorem mw_get {Y : MD} {d pc nx : Nat} {L S : List MV} {M : MH} {Q : Out → MH → Prop} {ci k idx a : Nat} {v : MV} (h : Dk Y pc (.getfield idx) 3 nx) (hF : FieldAt (my Y).cls idx ci k) (hs : (msh M a).1 = ci) (hv : ∀ G, rl G v = mfv G M ci a k) (kk : MW Y d nx L (v :: S) M Q) : MW Y d pc L (vp a :: S) M Q := by
  intro G M0 p l e R s m args below meth c H locs ls C
  obtain ⟨hd, rfl⟩ := h
  have K := kk G M0 p l e R s m args below meth c H locs ls C
  obtain ⟨r, hc, hk, hlink⟩ := hF
  obtain ⟨hexec, hb, -, -, hown, hts, -, -, hK, -⟩ := C.1
  obtain ⟨cell, q1, q2, q3, q4⟩ := C.2.1.obj hc hs
  obtain ⟨hS, hfc, kC, hkC, hkind⟩ := hK.1.1 ci _ hc
  obtain ⟨cf, kf, fi, f, hi, hsl⟩ := hS k hk
  have hst := (u_facts hfc hkC (u_lays hts (mcl_in ci r hc) hk) hi).1
  have hslot : cell.slots[f.slot]? = some (rl G v) := by rw [hsl, q4 k hk, hv G]
  have hvm : cell.vm ≠ .unknown := by rw [q3]; exact fun h => by cases h
  rcases hlink with hl | ⟨ref, hl, hsm⟩ | ⟨host, hl⟩
  · exact W.getf hexec hb hown (hts _ hl) hi hst q1 hvm hslot rfl rfl hd K
  · exact W.getf hexec hb hown (hts _ hl) (u_same (hts _ hsm) _ hi) hst q1 hvm hslot rfl rfl hd K
  · exact va_Wgetf hexec hb hown (va_Nw.use rfl (hK.2.1 _ hl)) hi hst q1 hvm hslot rfl rfl hd K
theorem mw_getI {Y : MD} {d pc nx : Nat} {L S : List MV} {M : MH} {Q : Out → MH → Prop} {ci k idx a : Nat} (h : Dk Y pc (.getfield idx) 3 nx) (hF : FieldAt (my Y).cls idx ci k) (ht : (mty ci k).isReference = false) (hs : (msh M a).1 = ci) (kk : MW Y d nx L (vi (miv M a k) :: S) M Q) : MW Y d pc L (vp a :: S) M Q :=
  mw_get h hF hs (fun G => by unfold mfv; rw [ht]; rfl) kk
theorem mw_getR {Y : MD} {d pc nx : Nat} {L S : List MV} {M : MH} {Q : Out → MH → Prop} {ci k idx a : Nat} {r : Option Nat} (h : Dk Y pc (.getfield idx) 3 nx) (hF : FieldAt (my Y).cls idx ci k) (ht : (mty ci k).isReference = true) (hs : (msh M a).1 = ci) (hr : mrv M a k = r) (kk : MW Y d nx L (vr r :: S) M Q) : MW Y d pc L (vp a :: S) M Q :=
  mw_get h hF hs (fun G => by unfold mfv; rw [ht, ← hr]; exact rl_vr G _) kk
/-- a store to a field: not final, or in the constructor -/
def PutAt (Y : MD) (idx ci k : Nat) : Prop := ∃ r : vw_C, mcl[ci]? = some r ∧ k < r.2.2 ∧
  (((r.2.1 k).2.2.2 = false ∧ (Cond.fieldLink (my Y).cls idx (r.2.1 k).1 (r.2.1 k).2.1 (r.2.1 k).2.2.1 ∈ lw_all ∨
   (∃ ref, Cond.fieldLink (my Y).cls idx ref (r.2.1 k).2.1 (r.2.1 k).2.2.1 ∈ lw_all ∧ Cond.sameField ref (r.2.1 k).1 (r.2.1 k).2.1 (r.2.1 k).2.2.1 ∈ lw_all) ∨
   ∃ host, Cond.fieldLinkNest (my Y).cls idx (r.2.1 k).1 (r.2.1 k).2.1 (r.2.1 k).2.2.1 host ∈ lw_big)) ∨
   ((r.2.1 k).2.2.2 = true ∧ (my Y).name = "<init>" ∧ (r.2.1 k).1 = (my Y).cls ∧ Cond.fieldLink (my Y).cls idx (r.2.1 k).1 (r.2.1 k).2.1 (r.2.1 k).2.2.1 ∈ lw_all))
theorem mw_put {Y : MD} {d pc nx : Nat} {L S : List MV} {M M' : MH} {Q : Out → MH → Prop} {ci k idx a : Nat} {v : MV} (h : Dk Y pc (.putfield idx) 3 nx) (hF : PutAt Y idx ci k) (hs : (msh M a).1 = ci) (hn : ∀ G, narrow (mty ci k) (rl G v) = rl G v) (hfit : ∀ G, fits (mty ci k) (rl G v) = true)
    (e1 : mhn M' = mhn M) (e2 : mhs M' = mhs M) (e3 : msh M' = msh M) (e4 : ∀ q, q ≠ a → miv M' q = miv M q) (e5 : ∀ q, q ≠ a → mrv M' q = mrv M q) (e6 : ∀ G j, mfv G M' ci a j = updV (mfv G M ci a) k (rl G v) j)
    (kk : MW Y d nx L S M' Q) : MW Y d pc L (v :: vp a :: S) M Q := by
  intro G M0 p l e R s m args below meth c H locs ls C
  obtain ⟨hd, rfl⟩ := h
  obtain ⟨r, hc, hk, hlink⟩ := hF
  obtain ⟨hcx, hR, hl, hlo, hm1, hm2⟩ := C
  have hcx' := hcx
  obtain ⟨hexec, hb, -, -, hown, hts, -, hmn, hK, -⟩ := hcx'
  obtain ⟨cell, q1, q2, q3, q4⟩ := hR.obj hc hs
  have hlt : ci < 11 := (List.getElem?_eq_some_iff.mp hc).1
  have hp2 : 2 ≤ a := hR.ge (by omega)
  have hap := va_apart (own := (my Y).cls) hts (mcl_in ci r hc) (mty ci) (mcl_ty ci r hc) (mcl_nm ci r hc) hK.1 hc
  obtain ⟨hS, hfc, kC, hkC, hkind⟩ := hK.1.1 ci _ hc
  obtain ⟨cf, kf, fi, f, hi, hsl⟩ := hS k hk
  have hst := (u_facts hfc hkC (u_lays hts (mcl_in ci r hc) hk) hi).1
  have hlay := hts _ (mcl_in ci r hc _ (u_in_lay hk))
  have fin : ∀ (H' : Heap), H'[rho G a]? = some (cell.setSlot f.slot (rl G v)) → H'.size = H.size → (∀ q, q ≠ rho G a → H'[q]? = H[q]?) → W p l e R s m args below meth c H' (locs ++ [⟨rho G a, f.slot⟩]) (mhn M - mhn M0) (mhs M - mhs M0) (FinE G s below M0 Q) (F0 m (pc + 3) ls (S.map (rl G))) := by
    intro H' g1 g2 g3
    rw [hsl] at g1
    have hR' : Rel G M' H' := hR.put hp2 e1 e2 e3 e4 e5 g2 g3 (CellOK.ofObj hc (by rw [e3]; exact hs) (t_OB.to (V := updV (mfv G M ci a) k (rl G v)) ⟨_, g1, q2, q3, t_set q4 hap hk (rl G v)⟩ (fun j _ => (e6 G j).symm)))
    have K := kk G M0 p l e R s m args below meth c H' (locs ++ [⟨rho G a, f.slot⟩]) ls ⟨hcx, hR', hl, fun q hq => by
      rcases List.mem_append.mp hq with h | h
      · exact hlo q h
      · rw [List.mem_singleton.mp h]
        show gb0 G ≤ rho G a
        rw [rho_ge hp2]; omega, by rw [e1]; exact hm1, by rw [e2]; exact hm2⟩
    rw [e1, e2] at K
    exact K
  rcases hlink with ⟨hf, hlk⟩ | ⟨hf, hin, hdecl, hlk⟩
  · unfold u_lay at hlay
    rw [if_neg (by rw [hf]; decide)] at hlay
    have h6 := u_store hfc hkC hkind hlay hi (mcl_ty ci r hc k hk) (hn G) (hfit G)
    have h6' : k2_Sd s f cell.cls (rl G v) := by rw [q2]; exact h6
    have hltc : f.slot < cell.slots.size := by rw [hsl]; exact k2_hasslot (q4 k hk)
    rcases hlk with hl1 | ⟨ref, hl1, hsm⟩ | ⟨host, hl1⟩
    · exact W.putK hexec hb (f := f) ⟨hown, hts _ hl1, ⟨_, _, _, hi⟩, hst⟩ h6' q1 q3 hltc rfl rfl hd fin
    · exact W.putK hexec hb (f := f) ⟨hown, hts _ hl1, ⟨_, _, _, u_same (hts _ hsm) _ hi⟩, hst⟩ h6' q1 q3 hltc rfl rfl hd fin
    · exact va_WputK hexec hb (f := f) hown (va_Nw.use rfl (hK.2.1 _ hl1)) hi hst h6' q1 q3 hltc rfl rfl hd fin
  · unfold u_lay at hlay
    rw [if_pos hf] at hlay
    have hcf : m.cls = cf := by
      obtain ⟨_, _, c', _, _, _, -, -, hf', -, -, -, hown2, -⟩ := Cond.laysFinal_spec hlay
      have e1 : c' = cf := by have := hi.symm.trans hf'; simp at this; exact this.1.symm
      rw [hdecl] at hown2
      rw [← e1]; exact Option.some.inj (hown.symm.trans hown2)
    have h6 := u_fits hfc hkC hkind (Or.inr hlay) hi (mcl_ty ci r hc k hk) (hn G) (hfit G)
    exact W.putFinK hexec hb hown (hts _ hlk) hi hst hcf (hmn.trans hin) (by rw [q2]; exact h6) q1 q3 (by rw [hsl]; exact k2_hasslot (q4 k hk)) rfl rfl hd fin
theorem mfv_wI {G : GH} {M : MH} {ci a k : Nat} {z : Int} (ht : (mty ci k).isReference = false) (j : Nat) : mfv G (wI M a k z) ci a j = updV (mfv G M ci a) k (rl G (vi z)) j := by
  unfold updV
  by_cases e : j = k
  · subst e
    rw [if_pos rfl]
    unfold mfv
    rw [ht]
    show Value.int (Int32.ofInt (u2 (miv M) a j z a j)) = _
    simp [u2, rl]
  · rw [if_neg e]
    unfold mfv
    show (if _ then va_rf ((mrv M a j).map (rho G)) else Value.int (Int32.ofInt (u2 (miv M) a k z a j))) = _
    simp [u2, e]
theorem mfv_wR {G : GH} {M : MH} {ci a k : Nat} {r : Option Nat} (ht : (mty ci k).isReference = true) (j : Nat) : mfv G (wR M a k r) ci a j = updV (mfv G M ci a) k (rl G (vr r)) j := by
  unfold updV
  by_cases e : j = k
  · subst e
    rw [if_pos rfl, rl_vr]
    unfold mfv
    rw [ht]
    show va_rf ((u2 (mrv M) a j r a j).map (rho G)) = _
    simp [u2]
  · rw [if_neg e]
    unfold mfv
    show (if _ then va_rf ((u2 (mrv M) a k r a j).map (rho G)) else Value.int (Int32.ofInt (miv M a j))) = _
    simp [u2, e]
theorem u2_ne {α : Type} {f : Nat → Nat → α} {p i q : Nat} {x : α} (h : q ≠ p) : u2 f p i x q = f q := by
  funext j
  simp [u2, h]
theorem mw_putI {Y : MD} {d pc nx : Nat} {L S : List MV} {M : MH} {Q : Out → MH → Prop} {ci k idx a : Nat} {z : Int} (h : Dk Y pc (.putfield idx) 3 nx) (hF : PutAt Y idx ci k) (ht : mty ci k = .int) (hs : (msh M a).1 = ci) (kk : MW Y d nx L S (wI M a k z) Q) : MW Y d pc L (vi z :: vp a :: S) M Q :=
  mw_put (M' := wI M a k z) h hF hs (fun G => by rw [ht]; rfl) (fun G => by rw [ht]; rfl) rfl rfl rfl (fun q hq => u2_ne hq) (fun q _ => rfl) (fun G j => mfv_wI (by rw [ht]; rfl) j) kk
theorem mw_putZ {Y : MD} {d pc nx : Nat} {L S : List MV} {M : MH} {Q : Out → MH → Prop} {ci k idx a : Nat} {z : Int} (h : Dk Y pc (.putfield idx) 3 nx) (hF : PutAt Y idx ci k) (ht : mty ci k = .boolean) (hs : (msh M a).1 = ci) (hz : z = 0 ∨ z = 1) (kk : MW Y d nx L S (wI M a k z) Q) : MW Y d pc L (vi z :: vp a :: S) M Q :=
  mw_put (M' := wI M a k z) h hF hs (fun G => by rw [ht]; rcases hz with rfl | rfl <;> rfl) (fun G => by rw [ht]; rcases hz with rfl | rfl <;> rfl) rfl rfl rfl (fun q hq => u2_ne hq) (fun q _ => rfl) (fun G j => mfv_wI (by rw [ht]; rfl) j) kk
theorem mw_putR {Y : MD} {d pc nx : Nat} {L S : List MV} {M : MH} {Q : Out → MH → Prop} {ci k idx a : Nat} {r : Option Nat} (h : Dk Y pc (.putfield idx) 3 nx) (hF : PutAt Y idx ci k) (ht : (∃ n, mty ci k = .object n) ∨ ∃ t, mty ci k = .array t) (hs : (msh M a).1 = ci) (kk : MW Y d nx L S (wR M a k r) Q) : MW Y d pc L (vr r :: vp a :: S) M Q :=
  mw_put (M' := wR M a k r) h hF hs (fun G => by rcases ht with ⟨n, ht⟩ | ⟨n, ht⟩ <;> rw [ht] <;> cases r <;> rfl) (fun G => by rcases ht with ⟨n, ht⟩ | ⟨n, ht⟩ <;> rw [ht] <;> cases r <;> rfl) rfl rfl rfl (fun q _ => rfl) (fun q hq => u2_ne hq) (fun G j => mfv_wR (by rcases ht with ⟨n, ht⟩ | ⟨n, ht⟩ <;> rw [ht] <;> rfl) j) kk
/-! arrays -/
theorem mav_i {G : GH} {M : MH} {ak p j : Nat} (h : ak < 4) : mav G M ak p j = .int (Int32.ofInt (miv M p j)) := by
  unfold mav; rw [if_neg (by omega)]
theorem mav_r {G : GH} {M : MH} {ak p j : Nat} (h : 4 ≤ ak) : mav G M ak p j = rl G (vr (mrv M p j)) := by
  unfold mav; rw [if_pos h, rl_vr]
theorem KN.arr {G : GH} {s : State} (h : KN G s) : ∀ ak, ak ≤ 6 → ArrOfT s (gaC G ak) (maT ak) ∧ va_RA s (gaC G ak) (maT ak)
  | 0, _ => h.1.2 0 _ rfl
  | 1, _ => h.1.2 1 _ rfl
  | 2, _ => h.1.2 2 _ rfl
  | 3, _ => h.1.2 3 _ rfl
  | 4, _ => h.1.2 4 _ rfl
  | 5, _ => h.1.2 5 _ rfl
  | 6, _ => h.1.2 6 _ rfl
  | n + 7, hn => absurd hn (by omega)
theorem mw_iaload {Y : MD} {d pc nx : Nat} {L S : List MV} {M : MH} {Q : Out → MH → Prop} {a n : Nat} {i : Int} (h : Dk Y pc .iaload 1 nx) (hs : msh M a = (100, n)) (hn : n ≤ 2147483647) (hi : 0 ≤ i ∧ i < n) (k : MW Y d nx L (vi (miv M a i.toNat) :: S) M Q) : MW Y d pc L (vi i :: vp a :: S) M Q := by
  intro G M0 p l e R s m args below meth c H locs ls C
  obtain ⟨hd, rfl⟩ := h
  have hK := C.1.2.2.2.2.2.2.2.2.1
  have K := k G M0 p l e R s m args below meth c H locs ls C
  refine W.iald (v := .int (Int32.ofInt (miv M a i.toNat))) C.1.1 C.1.2.1 (C.2.1.arr (ak := 0) hs).2 ((hK.arr 0 (by decide)).1 n _) (fun q => by cases q) (by rw [arrV_size]; exact i32_in hi.1 hi.2 hn) ?_ rfl rfl hd K
  rw [i32_clamp (by omega), arrV_read _ _ (by omega), mav_i (by decide)]
theorem mw_zaload {Y : MD} {d pc nx : Nat} {L S : List MV} {M : MH} {Q : Out → MH → Prop} {a n : Nat} {i : Int} (h : Dk Y pc .baload 1 nx) (hs : msh M a = (101, n)) (hn : n ≤ 2147483647) (hi : 0 ≤ i ∧ i < n) (k : MW Y d nx L (vi (miv M a i.toNat) :: S) M Q) : MW Y d pc L (vi i :: vp a :: S) M Q := by
  intro G M0 p l e R s m args below meth c H locs ls C
  obtain ⟨hd, rfl⟩ := h
  have hK := C.1.2.2.2.2.2.2.2.2.1
  have K := k G M0 p l e R s m args below meth c H locs ls C
  refine W.zald (v := .int (Int32.ofInt (miv M a i.toNat))) C.1.1 C.1.2.1 (C.2.1.arr (ak := 1) hs).2 ((hK.arr 1 (by decide)).1 n _) (fun q => by cases q) (by rw [arrV_size]; exact i32_in hi.1 hi.2 hn) ?_ rfl rfl hd K
  rw [i32_clamp (by omega), arrV_read _ _ (by omega), mav_i (by decide)]
theorem mw_baload {Y : MD} {d pc nx : Nat} {L S : List MV} {M : MH} {Q : Out → MH → Prop} {a n : Nat} {i : Int} (h : Dk Y pc .baload 1 nx) (hs : msh M a = (102, n)) (hn : n ≤ 2147483647) (hi : 0 ≤ i ∧ i < n) (k : MW Y d nx L (vi (miv M a i.toNat) :: S) M Q) : MW Y d pc L (vi i :: vp a :: S) M Q := by
  intro G M0 p l e R s m args below meth c H locs ls C
  obtain ⟨hd, rfl⟩ := h
  have hK := C.1.2.2.2.2.2.2.2.2.1
  have K := k G M0 p l e R s m args below meth c H locs ls C
  refine W.bald (v := .int (Int32.ofInt (miv M a i.toNat))) C.1.1 C.1.2.1 (C.2.1.arr (ak := 2) hs).2 ((hK.arr 2 (by decide)).1 n _) (fun q => by cases q) (by rw [arrV_size]; exact i32_in hi.1 hi.2 hn) ?_ rfl rfl hd K
  rw [i32_clamp (by omega), arrV_read _ _ (by omega), mav_i (by decide)]
theorem mw_saload {Y : MD} {d pc nx : Nat} {L S : List MV} {M : MH} {Q : Out → MH → Prop} {a n : Nat} {i : Int} (h : Dk Y pc .saload 1 nx) (hs : msh M a = (103, n)) (hn : n ≤ 2147483647) (hi : 0 ≤ i ∧ i < n) (k : MW Y d nx L (vi (miv M a i.toNat) :: S) M Q) : MW Y d pc L (vi i :: vp a :: S) M Q := by
  intro G M0 p l e R s m args below meth c H locs ls C
  obtain ⟨hd, rfl⟩ := h
  have hK := C.1.2.2.2.2.2.2.2.2.1
  have K := k G M0 p l e R s m args below meth c H locs ls C
  refine W.sald (v := .int (Int32.ofInt (miv M a i.toNat))) C.1.1 C.1.2.1 (C.2.1.arr (ak := 3) hs).2 ((hK.arr 3 (by decide)).1 n _) (fun q => by cases q) (by rw [arrV_size]; exact i32_in hi.1 hi.2 hn) ?_ rfl rfl hd K
  rw [i32_clamp (by omega), arrV_read _ _ (by omega), mav_i (by decide)]
theorem mw_aaload {Y : MD} {d pc nx : Nat} {L S : List MV} {M : MH} {Q : Out → MH → Prop} {a n ak : Nat} {i : Int} {r : Option Nat} (h : Dk Y pc .aaload 1 nx) (h4 : 4 ≤ ak) (hs : msh M a = (100 + ak, n)) (hn : n ≤ 2147483647) (hi : 0 ≤ i ∧ i < n) (hr : mrv M a i.toNat = r) (k : MW Y d nx L (vr r :: S) M Q) : MW Y d pc L (vi i :: vp a :: S) M Q := by
  intro G M0 p l e R s m args below meth c H locs ls C
  obtain ⟨hd, rfl⟩ := h
  have hK := C.1.2.2.2.2.2.2.2.2.1
  have K := k G M0 p l e R s m args below meth c H locs ls C
  obtain ⟨h6, hcell⟩ := C.2.1.arr hs
  have hrt : (maT ak).isReference = true := by
    rcases ak with _ | _ | _ | _ | _ | _ | ak
    · omega
    · omega
    · omega
    · omega
    · rfl
    · rfl
    · rfl
  refine W.aald (v := rl G (vr r)) (ty := maT ak) C.1.1 C.1.2.1 hcell ((hK.arr ak h6).1 n _) hrt (fun q => by cases q) (by rw [arrV_size]; exact i32_in hi.1 hi.2 hn) ?_ rfl rfl hd K
  rw [i32_clamp (by omega), arrV_read _ _ (by omega), mav_r h4, hr]
theorem mw_alen {Y : MD} {d pc nx : Nat} {L S : List MV} {M : MH} {Q : Out → MH → Prop} {a n ak : Nat} (h : Dk Y pc .arraylength 1 nx) (hs : msh M a = (100 + ak, n)) (k : MW Y d nx L (vi n :: S) M Q) : MW Y d pc L (vp a :: S) M Q := by
  intro G M0 p l e R s m args below meth c H locs ls C
  obtain ⟨hd, rfl⟩ := h
  have hK := C.1.2.2.2.2.2.2.2.2.1
  have K := k G M0 p l e R s m args below meth c H locs ls C
  obtain ⟨h6, hcell⟩ := C.2.1.arr hs
  exact W.alen (n := Int32.ofInt n) C.1.1 C.1.2.1 hcell ((hK.arr ak h6).1 n _) (by rw [arrV_size, Int32.ofInt_eq_ofNat]) rfl rfl hd K
/-- the length of the empty array that ArrayList begins with -/
theorem mw_alen0 {Y : MD} {d pc nx : Nat} {L S : List MV} {M : MH} {Q : Out → MH → Prop} (h : Dk Y pc .arraylength 1 nx) (k : MW Y d nx L (vi 0 :: S) M Q) : MW Y d pc L (vp 0 :: S) M Q := by
  intro G M0 p l e R s m args below meth c H locs ls C
  obtain ⟨hd, rfl⟩ := h
  have hK := C.1.2.2.2.2.2.2.2.2.1
  have K := k G M0 p l e R s m args below meth c H locs ls C
  obtain ⟨-, ⟨-, -, h0, -⟩, -, d1⟩ := C.2.1
  have d2 := (d1 0 (by rw [h0]; decide)).2
  unfold CellOK at d2
  rw [h0] at d2
  obtain ⟨cell, g1, g2, g3, g4, g5⟩ := d2
  have hA := (hK.arr 4 (by decide)).1 0 (fun _ => .null)
  refine W.alen (n := Int32.ofInt 0) (ty := maT 4) C.1.1 C.1.2.1 g1 ⟨VmData.ne_statics_of g3, ?_⟩ (by rw [g5]; rfl) rfl rfl hd K
  rw [g2]
  exact hA.2
/-! stores into arrays -/
theorem mw_ast {Y : MD} {d nx : Nat} {L S : List MV} {M : MH} {Q : Out → MH → Prop} {a n ak : Nat} {i z' : Int} (h4 : ak < 4) (hs : msh M a = (100 + ak, n)) (hi : 0 ≤ i ∧ i < n) (hn : n ≤ 2147483647) (kk : MW Y d nx L S (wI M a i.toNat z') Q)
    {G : GH} {M0 : MH} {p : Program} {l : Launch} {e : Env} {R : Room} {s : State} {m : MethodId} {args : Array Value} {below : List Frame} {meth : Method} {c : Code} {H : Heap} {locs : List Loc} {ls : Array Slot} (C : Cx Y d G M0 L M p l R s m args meth c H locs ls)
    {x : Value} (hx : x = .int (Int32.ofInt z')) (H' : Heap) (g1 : H'[rho G a]? = some ((arrV (gaC G ak) n (mav G M ak a)).setSlot (Int32.ofInt i).toNatClampNeg x)) (g2 : H'.size = H.size) (g3 : ∀ q, q ≠ rho G a → H'[q]? = H[q]?) :
    W p l e R s m args below meth c H' (locs ++ [⟨rho G a, (Int32.ofInt i).toNatClampNeg⟩]) (mhn M - mhn M0) (mhs M - mhs M0) (FinE G s below M0 Q) (F0 m nx ls (S.map (rl G))) := by
  obtain ⟨hcx, hR, hl, hlo, hm1, hm2⟩ := C
  have hp2 : 2 ≤ a := hR.ge (by rw [hs]; show 100 + ak < 97 ∨ 99 < 100 + ak; omega)
  have hR' : Rel G (wI M a i.toNat z') H' := hR.put hp2 rfl rfl rfl (fun q hq => u2_ne hq) (fun q _ => rfl) g2 g3 (CellOK.ofArr (by omega) hs (by
    rw [g1, i32_clamp (by omega), arrV_store]
    congr 2
    funext j
    rw [mav_i h4]
    show _ = Value.int (Int32.ofInt (u2 (miv M) a i.toNat z' a j))
    unfold updV u2
    by_cases e : j = i.toNat
    · rw [if_pos e, if_pos ⟨rfl, e⟩, hx]
    · rw [if_neg e, if_neg (fun q => e q.2), mav_i h4]))
  exact kk G M0 p l e R s m args below meth c H' (locs ++ [⟨rho G a, (Int32.ofInt i).toNatClampNeg⟩]) ls ⟨hcx, hR', hl, fun q hq => by
      rcases List.mem_append.mp hq with h | h
      · exact hlo q h
      · rw [List.mem_singleton.mp h]
        show gb0 G ≤ rho G a
        rw [rho_ge hp2]; omega, hm1, hm2⟩
theorem mw_iastore {Y : MD} {d pc nx : Nat} {L S : List MV} {M : MH} {Q : Out → MH → Prop} {a n : Nat} {i z : Int} (h : Dk Y pc .iastore 1 nx) (hs : msh M a = (100, n)) (hn : n ≤ 2147483647) (hi : 0 ≤ i ∧ i < n) (kk : MW Y d nx L S (wI M a i.toNat z) Q) : MW Y d pc L (vi z :: vi i :: vp a :: S) M Q := by
  intro G M0 p l e R s m args below meth c H locs ls C
  obtain ⟨hd, rfl⟩ := h
  have hK := C.1.2.2.2.2.2.2.2.2.1
  exact W.iast C.1.1 C.1.2.1 (C.2.1.arr (ak := 0) hs).2 ((hK.arr 0 (by decide)).1 n _) (fun q => by cases q) (by rw [arrV_size]; exact i32_in hi.1 hi.2 hn) rfl rfl hd (mw_ast (ak := 0) (by decide) hs hi hn kk C rfl)
theorem mw_zastore {Y : MD} {d pc nx : Nat} {L S : List MV} {M : MH} {Q : Out → MH → Prop} {a n : Nat} {i z : Int} (h : Dk Y pc .bastore 1 nx) (hs : msh M a = (101, n)) (hn : n ≤ 2147483647) (hi : 0 ≤ i ∧ i < n) (hz : z = 0 ∨ z = 1) (kk : MW Y d nx L S (wI M a i.toNat z) Q) : MW Y d pc L (vi z :: vi i :: vp a :: S) M Q := by
  intro G M0 p l e R s m args below meth c H locs ls C
  obtain ⟨hd, rfl⟩ := h
  have hK := C.1.2.2.2.2.2.2.2.2.1
  exact W.zast C.1.1 C.1.2.1 (C.2.1.arr (ak := 1) hs).2 ((hK.arr 1 (by decide)).1 n _) (fun q => by cases q) (by rw [arrV_size]; exact i32_in hi.1 hi.2 hn) rfl rfl hd (mw_ast (ak := 1) (by decide) hs hi hn kk C (by rcases hz with rfl | rfl <;> rfl))
theorem nar_b (z : Int) : narrow .byte (.int (Int32.ofInt z)) = .int (Int32.ofInt (z.bmod 256)) := by
  show Value.int _ = _
  congr 1
  rw [← Int32.toInt_inj]
  simp
  exact (bmod_sm (x := z.bmod 256) (by have := Int.le_bmod (x := z) (m := 256) (by decide); omega) (by have := Int.bmod_lt (x := z) (m := 256) (by decide); omega)).symm
theorem nar_s (z : Int) : narrow .short (.int (Int32.ofInt z)) = .int (Int32.ofInt (z.bmod 65536)) := by
  show Value.int _ = _
  congr 1
  rw [← Int32.toInt_inj]
  simp
  exact (bmod_sm (x := z.bmod 65536) (by have := Int.le_bmod (x := z) (m := 65536) (by decide); omega) (by have := Int.bmod_lt (x := z) (m := 65536) (by decide); omega)).symm
theorem mw_bastore {Y : MD} {d pc nx : Nat} {L S : List MV} {M : MH} {Q : Out → MH → Prop} {a n : Nat} {i z : Int} (h : Dk Y pc .bastore 1 nx) (hs : msh M a = (102, n)) (hn : n ≤ 2147483647) (hi : 0 ≤ i ∧ i < n) (kk : MW Y d nx L S (wI M a i.toNat (z.bmod 256)) Q) : MW Y d pc L (vi z :: vi i :: vp a :: S) M Q := by
  intro G M0 p l e R s m args below meth c H locs ls C
  obtain ⟨hd, rfl⟩ := h
  have hK := C.1.2.2.2.2.2.2.2.2.1
  exact W.bast C.1.1 C.1.2.1 (C.2.1.arr (ak := 2) hs).2 ((hK.arr 2 (by decide)).1 n _) (fun q => by cases q) (by rw [arrV_size]; exact i32_in hi.1 hi.2 hn) rfl rfl hd (mw_ast (ak := 2) (by decide) hs hi hn kk C (nar_b z))
theorem mw_sastore {Y : MD} {d pc nx : Nat} {L S : List MV} {M : MH} {Q : Out → MH → Prop} {a n : Nat} {i z : Int} (h : Dk Y pc .sastore 1 nx) (hs : msh M a = (103, n)) (hn : n ≤ 2147483647) (hi : 0 ≤ i ∧ i < n) (kk : MW Y d nx L S (wI M a i.toNat (z.bmod 65536)) Q) : MW Y d pc L (vi z :: vi i :: vp a :: S) M Q := by
  intro G M0 p l e R s m args below meth c H locs ls C
  obtain ⟨hd, rfl⟩ := h
  have hK := C.1.2.2.2.2.2.2.2.2.1
  exact W.sast C.1.1 C.1.2.1 (C.2.1.arr (ak := 3) hs).2 ((hK.arr 3 (by decide)).1 n _) (fun q => by cases q) (by rw [arrV_size]; exact i32_in hi.1 hi.2 hn) rfl rfl hd (mw_ast (ak := 3) (by decide) hs hi hn kk C (nar_s z))
