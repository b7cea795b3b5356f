/-! ArrayList, Math, Objects -/
/-- as mc_of, for a method of a class of which some are the machine's own -/
theorem mc_ofF {Y : MD} {d : Nat} {as L : List MV} {M : MH} {Q : Out → MH → Prop} (hy : plainFor (my Y) = true) (hlen : (mlay as).length ≤ mnL Y) (hL : mentry as (mnL Y) = L) (h : MW Y d 0 L [] M Q) : MC Y d as M Q := by
  intro G l rm h0 h1 h2 h3 h4
  refine MetFree.of_bodySF (code := mcc Y) (maxLocals := mnL Y) (ret := mret Y) hy ?_ ?_
  · intro args s m hw hn
    obtain ⟨m9, meth, c, hn9, a1, a2, a3, a4, a5, a6, -⟩ := mword_spec (atoms_spec (ws := mword Y :: lw_all) hw _ List.mem_cons_self)
    cases hn.symm.trans hn9
    exact ⟨meth, c, a1, a2, a3, a4, a5, a6⟩
  · intro p e s m args below meth c s₁ B hml hP _
    obtain ⟨rfl, hR, hK, hlaw⟩ := hP
    have hh0 : s₁.heap = s.heap := by rw [B.state]; rfl
    have hts0 := atoms_spec (ws := mword Y :: lw_all) B.pre
    obtain ⟨m9, meth9, c9, hn9, a1, a2, -, -, -, -, a7, -⟩ := mword_spec (hts0 _ List.mem_cons_self)
    cases B.named.symm.trans hn9
    cases B.method.symm.trans a1
    have hcode : meth.code = some c := (Stand.of_body B).code
    cases hcode.symm.trans a2
    have hts : ∀ w ∈ lw_all, w.before (as.map (rl G)).toArray s = true := fun w hw => hts0 w (List.mem_cons_of_mem _ hw)
    have hcx : CxOK Y d G M p l rm s m (as.map (rl G)).toArray meth c := ⟨B.exec, B.bytes, B.returns, hml, findClass_of_methodNamed B.named, hts, B.notSynchronized, (name_of_methodNamed B.named B.method).1, hK, ⟨h1, h2, h3, h4⟩, a7, hlaw, h0, hR.2.2.1⟩
    have hl0 := lv_entry (as.map (rl G)) (n := mnL Y) (by rw [mlay_len]; exact hlen)
    have hlv : lvR G ((lg_sl (as.map (rl G)) ++ List.replicate (mnL Y - (lg_sl (as.map (rl G))).length) Slot.unset).toArray) (mnL Y) L := by
      refine ⟨hl0.1, hl0.2.1, fun i v hi hv => ?_⟩
      rw [← hL] at hi
      unfold mentry at hi
      by_cases hlt : i < (mlay as).length
      · rw [List.getElem?_append_left hlt] at hi
        have := mlay_args G as 0 i v hi hv
        rw [Nat.zero_add] at this
        exact hl0.2.2 _ this
      · rw [List.getElem?_append_right (by omega)] at hi
        have := List.eq_of_mem_replicate (List.mem_of_getElem? hi)
        exact absurd this hv
    have K := h G M p l e rm s m (as.map (rl G)).toArray below meth c s.heap [] _ ⟨hcx, hR, hlv, (fun q hq => by cases hq), Nat.le_refl _, Nat.le_refl _⟩
    rw [Nat.sub_self, Nat.sub_self] at K
    rw [lg_entry_eq]
    obtain ⟨t, b1, out, M', L', c1, c2, c3, c4, c5, c6, c7, c8, c9⟩ := K s₁ hh0 (Stand.of_body B)
    exact ⟨t, outO G out, b1, c1, c2, out, M', L', rfl, c3, c4, c5, c6, c7, c8, c9⟩
theorem sp_J6_min {d : Nat} {a b : Int} (ha : inR a) (hb : inR b) : MCp mJ6_min d [vi a, vi b] (if a ≤ b then a else b) := by
  intro M
  refine mc_ofF (L := [vi a, vi b]) (by decide +kernel) (Nat.le_of_ble_eq_true rfl) rfl ?_
  refine iJ6_min_0 (iJ6_min_1 (iJ6_min_2 (by omega) (by omega) (fun g => ?_) (fun g => ?_)))
  · refine iJ6_min_9 (iJ6_min_10 ?_)
    exact ⟨by rw [if_neg (by omega)], rfl⟩
  · refine iJ6_min_5 (iJ6_min_6 (iJ6_min_10 ?_))
    exact ⟨by rw [if_pos (by omega)], rfl⟩
theorem sp_J6_max {d : Nat} {a b : Int} (ha : inR a) (hb : inR b) : MCp mJ6_max d [vi a, vi b] (if b ≤ a then a else b) := by
  intro M
  refine mc_ofF (L := [vi a, vi b]) (by decide +kernel) (Nat.le_of_ble_eq_true rfl) rfl ?_
  refine iJ6_max_0 (iJ6_max_1 (iJ6_max_2 (by omega) (by omega) (fun g => ?_) (fun g => ?_)))
  · refine iJ6_max_9 (iJ6_max_10 ?_)
    exact ⟨by rw [if_neg (by omega)], rfl⟩
  · refine iJ6_max_5 (iJ6_max_6 (iJ6_max_10 ?_))
    exact ⟨by rw [if_pos (by omega)], rfl⟩
theorem sp_J6_abs {d : Nat} {a : Int} (ha : inR a) : MCp mJ6_abs d [vi a] (if 0 ≤ a then a else -a) := by
  intro M
  refine mc_ofF (L := [vi a]) (by decide +kernel) (Nat.le_of_ble_eq_true rfl) rfl ?_
  refine iJ6_abs_0 (iJ6_abs_1 (by omega) (fun g => ?_) (fun g => ?_))
  · refine iJ6_abs_9 (iJ6_abs_10 ?_)
    exact ⟨by rw [if_pos g], rfl⟩
  · refine iJ6_abs_4 (iJ6_abs_5 (iJ6_abs_6 (iJ6_abs_10 ?_)))
    exact ⟨by rw [if_neg g], rfl⟩
theorem sp_J9_checkIndex {d : Nat} {a b : Int} {o : Option Nat} (ha : 0 ≤ a ∧ a < b) (hb : inR b) : MCp mJ9_checkIndex d [vi a, vi b, vr o] a := by
  intro M
  refine mc_of (L := [vi a, vi b, vr o]) (by decide +kernel) (Nat.le_of_ble_eq_true rfl) rfl ?_
  refine iJ9_checkIndex_0 (iJ9_checkIndex_1 (by omega) (fun g => ?_) (fun g => ?_))
  · omega
  refine iJ9_checkIndex_4 (iJ9_checkIndex_5 (iJ9_checkIndex_6 (by omega) (by omega) (fun g2 => ?_) (fun g2 => ?_)))
  · refine iJ9_checkIndex_16 (iJ9_checkIndex_17 ?_)
    exact ⟨rfl, rfl⟩
  · omega
theorem sp_J8_checkIndex {d : Nat} {a b : Int} (ha : 0 ≤ a ∧ a < b) (hb : inR b) : MCp mJ8_checkIndex (d + 1) [vi a, vi b] a := by
  intro M
  refine mc_of (L := [vi a, vi b]) (by decide +kernel) (Nat.le_of_ble_eq_true rfl) rfl ?_
  refine iJ8_checkIndex_0 (iJ8_checkIndex_1 (iJ8_checkIndex_2 ?_))
  refine iJ8_checkIndex_3 (sp_J9_checkIndex ha hb M) ?_
  rintro z M' ⟨rfl, rfl⟩
  refine iJ8_checkIndex_6 ?_
  exact ⟨rfl, rfl⟩
theorem bc_ok : ∀ a : Nat, a < 256 → (let x := (a : Int) - band (bushr a 1) 1431655765; let y := band x 858993459 + band (bushr x 2) 858993459; let z := band (y + bushr y 4) 252645135; let w := z + bushr z 8; band (w + bushr w 16) 63) = (cnt a 9 : Int) := by decide +kernel
theorem sp_J10_bitCount {d a : Nat} (ha : a < 256) : MCp mJ10_bitCount d [vi a] (cnt a 9) := by
  intro M
  refine mc_of (L := [vi a]) (by decide +kernel) (Nat.le_of_ble_eq_true rfl) rfl ?_
  refine iJ10_bitCount_0 (iJ10_bitCount_1 (iJ10_bitCount_2 (iJ10_bitCount_3 (iJ10_bitCount_4 (iJ10_bitCount_7 (iJ10_bitCount_8 (iJ10_bitCount_9 (iJ10_bitCount_10 (iJ10_bitCount_11 (iJ10_bitCount_14 (iJ10_bitCount_15 (iJ10_bitCount_16 (iJ10_bitCount_17 (iJ10_bitCount_18 (iJ10_bitCount_21 (iJ10_bitCount_22 (iJ10_bitCount_23 (iJ10_bitCount_24 (iJ10_bitCount_25 (iJ10_bitCount_26 (iJ10_bitCount_27 (iJ10_bitCount_28 (iJ10_bitCount_29 (iJ10_bitCount_32 (iJ10_bitCount_33 (iJ10_bitCount_34 (iJ10_bitCount_35 (iJ10_bitCount_36 (iJ10_bitCount_38 (iJ10_bitCount_39 (iJ10_bitCount_40 (iJ10_bitCount_41 (iJ10_bitCount_42 (iJ10_bitCount_43 (iJ10_bitCount_45 (iJ10_bitCount_46 (iJ10_bitCount_47 (iJ10_bitCount_48 (iJ10_bitCount_49 (iJ10_bitCount_51 (iJ10_bitCount_52 ?_)))))))))))))))))))))))))))))))))))))))))
  exact ⟨bc_ok a ha, rfl⟩
section
variable {d a e n : Nat} {M : MH} {W : MVal}
theorem sp_J2_size (hS : (msh M a).1 = 3) : MVi mJ2_size d [vp a] M W (fun z W' => z = W a 2 ∧ W = W') := by
  refine mc_of (L := [vp a]) (by decide +kernel) (Nat.le_of_ble_eq_true rfl) rfl ?_
  refine iJ2_size_0 (iJ2_size_1 hS (iJ2_size_4 ?_))
  exact ⟨W, rfl, rfl, rfl⟩
theorem sp_J2_isEmpty (hS : (msh M a).1 = 3) (h : 0 ≤ W a 2 ∧ W a 2 ≤ 8) : MVi mJ2_isEmpty d [vp a] M W (fun z W' => z = bz (W a 2 = 0) ∧ W = W') := by
  refine mc_of (L := [vp a]) (by decide +kernel) (Nat.le_of_ble_eq_true rfl) rfl ?_
  refine iJ2_isEmpty_0 (iJ2_isEmpty_1 hS ?_)
  change MW mJ2_isEmpty d 4 _ [vi (W a 2)] _ _
  refine iJ2_isEmpty_4 (by omega) (fun g => ?_) (fun g => ?_)
  · refine iJ2_isEmpty_11 (iJ2_isEmpty_12 ?_ ?_)
    · exact Or.inl rfl
    · exact ⟨W, rfl, (bz_f g).symm, rfl⟩
  · refine iJ2_isEmpty_7 (iJ2_isEmpty_8 (iJ2_isEmpty_12 ?_ ?_))
    · exact Or.inr rfl
    · exact ⟨W, rfl, (bz_t g).symm, rfl⟩
theorem sp_J2_elementData {k c : Nat} (hS : (msh M a).1 = 3) (hr : mrv M a 1 = some e) (he : msh M e = (104, 10)) (hk : k < 8) (hc : mrv M e k = some c) : MVr mJ2_elementData d [vp a, vi k] M W (fun r W' => r = some c ∧ W = W') := by
  refine mc_of (L := [vp a, vi k]) (by decide +kernel) (Nat.le_of_ble_eq_true rfl) rfl ?_
  refine iJ2_elementData_0 (iJ2_elementData_1 hS hr (iJ2_elementData_4 (iJ2_elementData_5 (n := 10) (ak := 4) (o := some c) (by decide) he ⟨by omega, by omega⟩ (by decide) ?_ (iJ2_elementData_6 ?_))))
  · rw [Int.toNat_natCast]; exact hc
  · exact ⟨W, rfl, rfl, rfl⟩
theorem sp_J2_get {k c : Nat} (hS : (msh M a).1 = 3) (hr : mrv M a 1 = some e) (he : msh M e = (104, 10)) (hn : (k : Int) < W a 2) (h8 : W a 2 ≤ 8) (hc : mrv M e k = some c) : MVr mJ2_get (d + 2) [vp a, vi k] M W (fun r W' => r = some c ∧ W = W') := by
  refine mc_of (L := [vp a, vi k]) (by decide +kernel) (Nat.le_of_ble_eq_true rfl) rfl ?_
  refine iJ2_get_0 (iJ2_get_1 (iJ2_get_2 hS ?_))
  change MW mJ2_get (d + 2) 5 _ [vi (W a 2), vi k] _ _
  refine iJ2_get_5 (sp_J8_checkIndex (d := d) ⟨by omega, hn⟩ (by omega) _) ?_
  rintro z M' ⟨rfl, rfl⟩
  refine iJ2_get_8 (iJ2_get_9 (iJ2_get_10 ?_))
  refine iJ2_get_11 hS (sp_J2_elementData (W := W) hS hr he (by omega) hc) ?_
  rintro r M' ⟨W', rfl, rfl, rfl⟩
  refine iJ2_get_14 ?_
  exact ⟨W, rfl, rfl, rfl⟩
/-- the first n places of the array e are empty -/
def clrR (rv : Nat → Nat → Option Nat) (e n : Nat) : Nat → Nat → Option Nat := fun q j => if q = e ∧ j < n then none else rv q j
theorem clrR_0 {rv : Nat → Nat → Option Nat} : clrR rv e 0 = rv := by
  funext q j
  unfold clrR
  rw [if_neg (by omega)]
theorem clrR_s {rv : Nat → Nat → Option Nat} : u2 (clrR rv e n) e n none = clrR rv e (n + 1) := by
  funext q j
  show (if q = e ∧ j = n then none else if q = e ∧ j < n then none else rv q j) = if q = e ∧ j < n + 1 then none else rv q j
  by_cases h : q = e ∧ j = n
  · rw [if_pos h, if_pos (by omega)]
  · rw [if_neg h]
    by_cases h2 : q = e ∧ j < n
    · rw [if_pos h2, if_pos (by omega)]
    · rw [if_neg h2, if_neg (by omega)]
theorem sp_J2_clear (hS : (msh M a).1 = 3) (hr : mrv M a 1 = some e) (he : e = 0 ∧ n = 0 ∨ msh M e = (104, 10)) (hn : W a 2 = n) (h8 : n ≤ 8) : MCv mJ2_clear d [vp a] (sI M W) (fun M' => M' = sI (sR M (clrR (mrv M) e n)) (u2 (u2 W a 0 (W a 0 + 1)) a 2 0)) := by
  refine mc_of (L := [vp a, vu, vu, vu]) (by decide +kernel) (Nat.le_of_ble_eq_true rfl) rfl ?_
  generalize hW2 : u2 (u2 W a 0 (W a 0 + 1)) a 2 0 = W2
  have loop : ∀ f k : Nat, k + f = n → MW mJ2_clear d 27 [vp a, vp e, vi n, vi k] [] (sI (sR M (clrR (mrv M) e k)) W2) (Rv (fun M' => M' = sI (sR M (clrR (mrv M) e n)) W2)) := by
    intro f
    induction f with
    | zero =>
      intro k h
      have : k = n := by omega
      subst this
      refine iJ2_clear_27 (iJ2_clear_28 (iJ2_clear_29 (by omega) (by omega) (fun g => ?_) (fun g => ?_)))
      · refine iJ2_clear_42 ?_
        rfl
      · omega
    | succ f ih =>
      intro k h
      refine iJ2_clear_27 (iJ2_clear_28 (iJ2_clear_29 (by omega) (by omega) (fun g => ?_) (fun g => ?_)))
      · omega
      have he' : msh M e = (104, 10) := he.resolve_left (by omega)
      refine iJ2_clear_32 (iJ2_clear_33 (iJ2_clear_34 (iJ2_clear_35N (n := 10) he' (by decide) ⟨by omega, by omega⟩ ?_)))
      rw [Int.toNat_natCast]
      have e1 : wR (sI (sR M (clrR (mrv M) e k)) W2) e k none = sI (sR M (clrR (mrv M) e (k + 1))) W2 := by
        rw [← clrR_s]; rfl
      rw [e1]
      refine iJ2_clear_36 (iJ2_clear_39 ?_)
      exact ih (k + 1) (by omega)
  refine iJ2_clear_0 (iJ2_clear_1 (iJ2_clear_2 hS (iJ2_clear_5 (iJ2_clear_6 (iJ2_clear_7 hS ?_)))))
  refine iJ2_clear_10 (iJ2_clear_11 hS hr (iJ2_clear_14 (iJ2_clear_15 (iJ2_clear_16 hS ?_))))
  have e2 : miv (wI (sI M W) a 0 (miv (sI M W) a 0 + 1)) a 2 = n := by
    show u2 W a 0 (W a 0 + 1) a 2 = n
    rw [u2_off (by decide)]; exact hn
  rw [e2]
  refine iJ2_clear_19 (iJ2_clear_20 (iJ2_clear_21 (iJ2_clear_22 (iJ2_clear_23 hS (iJ2_clear_26 ?_)))))
  have e3 : wI (wI (sI M W) a 0 (miv (sI M W) a 0 + 1)) a 2 0 = sI (sR M (clrR (mrv M) e 0)) W2 := by
    rw [clrR_0, ← hW2]; rfl
  rw [e3]
  exact loop n 0 (by omega)
/-- q has been added to the list a, of n so far -/
def AddP (M : MH) (W : MVal) (a n q : Nat) (M' : MH) : Prop :=
  ∃ e' : Nat, (e' = le M a ∧ le M a ≠ 0 ∧ mhn M' = mhn M ∧ mhs M' = mhs M ∨ e' = mhn M ∧ le M a = 0 ∧ mhn M' = mhn M + 1 ∧ mhs M' = mhs M + 10) ∧ mrv M' a 1 = some e' ∧ (∀ k, k ≠ 1 → mrv M' a k = mrv M a k) ∧ (∀ k, k < n → mrv M' e' k = mrv M (le M a) k) ∧ mrv M' e' n = some q ∧ (∀ p, p ≠ a → p ≠ e' → p ≠ mhn M → mrv M' p = mrv M p) ∧ (∀ p, p ≠ mhn M → msh M' p = msh M p) ∧ msh M' e' = (104, 10) ∧ (∀ p, p ≠ a → p ≠ mhn M → miv M' p = W p) ∧ miv M' a 2 = n + 1
set_option maxHeartbeats 2000000 in
theorem sp_J2_add {q : Nat} {C0 : String} (hS : (msh M a).1 = 3) (hm : a < mhn M) (hr : mrv M a 1 = some (le M a)) (he : le M a = 0 ∧ n = 0 ∨ le M a ≠ 0 ∧ le M a < mhn M ∧ le M a ≠ a ∧ msh M (le M a) = (104, 10)) (hn : W a 2 = n) (h8 : n < 8) (hC : ClsOf M q C0) (hcs : Cond.castable C0 "java/lang/Object" ∈ lw_big) (hq : q ≠ mhn M) (hcap : mhn M + 1 ≤ mNC) (hcas : mhs M + 10 ≤ mNS) : MCi mJ2_add (d + 4) [vp a, vp q] (sI M W) (fun _ M' => AddP M W a n q M') := by
  refine mc_of (L := [vp a, vp q]) (by decide +kernel) (Nat.le_of_ble_eq_true rfl) rfl ?_
  refine iJ2_add_0 (iJ2_add_1 (iJ2_add_2 hS (iJ2_add_5 (iJ2_add_6 (iJ2_add_7 hS (iJ2_add_10 (iJ2_add_11 (iJ2_add_12 ?_))))))))
  refine iJ2_add_13 hS hr (iJ2_add_16 (iJ2_add_17 hS ?_))
  have e2 : miv (wI (sI M W) a 0 (miv (sI M W) a 0 + 1)) a 2 = n := by
    show u2 W a 0 (W a 0 + 1) a 2 = n
    rw [u2_off (by decide)]; exact hn
  rw [e2]
  have e3 : wI (sI M W) a 0 (miv (sI M W) a 0 + 1) = sI M (u2 W a 0 (W a 0 + 1)) := rfl
  rw [e3]
  generalize hW1 : u2 W a 0 (W a 0 + 1) = W1
  have w1 : ∀ p, p ≠ a → W1 p = W p := fun p hp => by rw [← hW1, u2_ne hp]
  refine iJ2_add_20 hS (P := AddP M W a n q) ?_ ?_
  · refine mc_of (L := [vp a, vp q, vp (le M a), vi n]) (by decide +kernel) (Nat.le_of_ble_eq_true rfl) rfl ?_
    rcases he with ⟨e0, rfl⟩ | ⟨e0, e1, e4, e5⟩
    · rw [e0]
      refine iJ2_add_2_0 (iJ2_add_2_1 (iJ2_add_2_2E ?_))
      refine iJ2_add_2_3 (by omega) (by omega) (fun g => ?_) (fun g => ?_)
      · exact absurd rfl g
      refine iJ2_add_2_6 (iJ2_add_2_7 hS (P := fun r M' => r = some (mhn M) ∧ M' = wR (wN (sI M W1) 104 10) a 1 (some (mhn M))) ?_ ?_)
      · refine mc_of (L := [vp a]) (by decide +kernel) (Nat.le_of_ble_eq_true rfl) rfl ?_
        refine iJ2_grow_0 (iJ2_grow_1 (iJ2_grow_2 hS ?_))
        have ew : miv (sI M W1) a 2 = 0 := by
          show W1 a 2 = 0
          rw [← hW1, u2_off (by decide)]; exact hn
        rw [ew]
        refine iJ2_grow_5 (iJ2_grow_6 ?_)
        refine iJ2_grow_7 hS (P := fun r M' => r = some (mhn M) ∧ M' = wR (wN (sI M W1) 104 10) a 1 (some (mhn M))) ?_ ?_
        · refine mc_of (L := [vp a, vi (0 + 1), vu, vu]) (by decide +kernel) (Nat.le_of_ble_eq_true rfl) rfl ?_
          have hr0 : mrv M a 1 = some 0 := by rw [hr, e0]
          refine iJ2_grow_2_0 (iJ2_grow_2_1 hS hr0 (iJ2_grow_2_4E ?_))
          refine iJ2_grow_2_5 (iJ2_grow_2_6 (iJ2_grow_2_7 (by omega) (fun g2 => ?_) (fun g2 => ?_)))
          · omega
          refine iJ2_grow_2_10 (iJ2_grow_2_11 hS hr0 (iJ2_grow_2_14 (iJ2_grow_2_17 (by decide) (by decide) (fun _ => ?_) (fun g3 => absurd rfl g3))))
          refine iJ2_grow_2_45 (iJ2_grow_2_46 (iJ2_grow_2_48 ?_))
          refine iJ2_grow_2_49 (S := [vp a]) (sp_J6_max (d := d) (a := 10) (b := 0 + 1) (by omega) (by omega) _) ?_
          rintro z M' ⟨rfl, rfl⟩
          refine iJ2_grow_2_52 (n := 10) (by rw [if_pos (by omega)]; rfl) (by decide) hcap hcas ?_
          refine iJ2_grow_2_55 (iJ2_grow_2_56 ?_ (iJ2_grow_2_59 ?_))
          · show (msh (wN (sI M W1) 104 10) a).1 = 3
            rw [msh_wN_ne (show a ≠ mhn (sI M W1) from by show a ≠ mhn M; omega)]
            exact hS
          · exact ⟨rfl, rfl⟩
        · rintro r M' ⟨rfl, rfl⟩
          refine iJ2_grow_10 ?_
          exact ⟨rfl, rfl⟩
      · rintro r M' ⟨rfl, rfl⟩
        have hmm : a ≠ mhn M := by omega
        have sA : ∀ p, p ≠ mhn M → msh (wR (wN (sI M W1) 104 10) a 1 (some (mhn M))) p = msh M p := fun p hp => msh_wN_ne hp
        have sT : msh (wR (wN (sI M W1) 104 10) a 1 (some (mhn M))) (mhn M) = (104, 10) := msh_wN
        refine iJ2_add_2_10 (iJ2_add_2_11 (iJ2_add_2_12 (iJ2_add_2_13 (iJ2_add_2_14 (n := 10) sT (by decide) ⟨by omega, by omega⟩ (C0 := C0) ?_ hcs ?_))))
        · unfold ClsOf at hC ⊢
          rw [sA q hq]
          exact hC
        refine iJ2_add_2_15 (iJ2_add_2_16 (iJ2_add_2_17 (iJ2_add_2_18 (iJ2_add_2_19 ?_ (iJ2_add_2_22 ?_)))))
        · show (msh (wN (sI M W1) 104 10) a).1 = 3
          rw [msh_wN_ne (show a ≠ mhn (sI M W1) from hmm)]
          exact hS
        refine ⟨mhn M, Or.inr ⟨rfl, e0, rfl, rfl⟩, ?_, fun k hk => ?_, fun k hk => absurd hk (by omega), ?_, fun p h1 h2 h3 => ?_, sA, sT, fun p h1 h2 => ?_, ?_⟩
        · show u2 (u2 (mrv (wN (sI M W1) 104 10)) a 1 (some (mhn M))) (mhn M) _ (some q) a 1 = _
          rw [u2_ne hmm, u2_at]
        · show u2 (u2 (mrv (wN (sI M W1) 104 10)) a 1 (some (mhn M))) (mhn M) _ (some q) a k = _
          rw [u2_ne hmm, u2_off hk, mrv_wN_ne (show a ≠ mhn (sI M W1) from hmm)]; rfl
        · show u2 _ (mhn M) _ (some q) (mhn M) 0 = _
          exact u2_at
        · show u2 (u2 (mrv (wN (sI M W1) 104 10)) a 1 (some (mhn M))) (mhn M) _ (some q) p = _
          rw [u2_ne h3, u2_ne h1, mrv_wN_ne (show p ≠ mhn (sI M W1) from h3)]; rfl
        · show u2 (miv (wN (sI M W1) 104 10)) a 2 _ p = _
          rw [u2_ne h1, miv_wN_ne (show p ≠ mhn (sI M W1) from h2)]
          exact w1 p h1
        · show u2 (miv (wN (sI M W1) 104 10)) a 2 _ a 2 = _
          rw [u2_at]
    · refine iJ2_add_2_0 (iJ2_add_2_1 (iJ2_add_2_2 (n := 10) (ak := 4) e5 ?_))
      refine iJ2_add_2_3 (by omega) (by omega) (fun g => ?_) (fun g => ?_)
      rotate_left
      · omega
      refine iJ2_add_2_11 (iJ2_add_2_12 (iJ2_add_2_13 (iJ2_add_2_14 (n := 10) e5 (by decide) ⟨by omega, by omega⟩ (C0 := C0) hC hcs ?_)))
      rw [Int.toNat_natCast]
      refine iJ2_add_2_15 (iJ2_add_2_16 (iJ2_add_2_17 (iJ2_add_2_18 (iJ2_add_2_19 hS (iJ2_add_2_22 ?_)))))
      refine ⟨le M a, Or.inl ⟨rfl, e0, rfl, rfl⟩, ?_, fun k hk => ?_, fun k hk => ?_, u2_at, fun p h1 h2 _ => ?_, fun p _ => rfl, e5, fun p h1 _ => ?_, u2_at⟩
      · show u2 (mrv M) (le M a) n (some q) a 1 = _
        rw [u2_ne (Ne.symm e4)]; exact hr
      · show u2 (mrv M) (le M a) n (some q) a k = _
        rw [u2_ne (Ne.symm e4)]
      · show u2 (mrv M) (le M a) n (some q) (le M a) k = _
        rw [u2_off (by omega)]
      · show u2 (mrv M) (le M a) n (some q) p = _
        rw [u2_ne h2]
      · show u2 W1 a 2 _ p = _
        rw [u2_ne h1]; exact w1 p h1
  · intro M' h
    refine iJ2_add_23 (iJ2_add_24 ?_ ?_)
    · exact Or.inr rfl
    · exact h
end
