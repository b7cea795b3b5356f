/-! THE MINI WORLD: values, heap, and what they are on the machine -/
abbrev MV : Type := Int ⊕ (Int ⊕ (Option Nat ⊕ Unit))
abbrev vi (z : Int) : MV := Sum.inl z
abbrev vl (z : Int) : MV := Sum.inr (Sum.inl z)
abbrev vr (r : Option Nat) : MV := Sum.inr (Sum.inr (Sum.inl r))
abbrev vp (p : Nat) : MV := vr (some p)
abbrev vu : MV := Sum.inr (Sum.inr (Sum.inr ()))
abbrev inR (z : Int) : Prop := -2147483648 ≤ z ∧ z ≤ 2147483647
/-- cells made so far (and two external ones), slots, shapes (kind, length), int slots, reference slots -/
abbrev MH : Type := Nat × Nat × (Nat → Nat × Nat) × (Nat → Nat → Int) × (Nat → Nat → Option Nat)
def mhn (M : MH) : Nat := M.1
def mhs (M : MH) : Nat := M.2.1
def msh (M : MH) : Nat → Nat × Nat := M.2.2.1
def miv (M : MH) : Nat → Nat → Int := M.2.2.2.1
def mrv (M : MH) : Nat → Nat → Option Nat := M.2.2.2.2
def u2 {α : Type} (f : Nat → Nat → α) (p i : Nat) (x : α) : Nat → Nat → α := fun q j => if q = p ∧ j = i then x else f q j
def sI (M : MH) (f : Nat → Nat → Int) : MH := (mhn M, mhs M, msh M, f, mrv M)
def sR (M : MH) (f : Nat → Nat → Option Nat) : MH := (mhn M, mhs M, msh M, miv M, f)
def wI (M : MH) (p i : Nat) (x : Int) : MH := sI M (u2 (miv M) p i x)
def wR (M : MH) (p i : Nat) (x : Option Nat) : MH := sR M (u2 (mrv M) p i x)
/-- one more cell, of kind k, n slots long -/
def wN (M : MH) (k n : Nat) : MH := (mhn M + 1, mhs M + n, fun q => if q = mhn M then (k, n) else msh M q, fun q j => if q = mhn M then 0 else miv M q j, fun q j => if q = mhn M then none else mrv M q j)
/-- returned, or thrown (the object's place) -/
abbrev Out : Type := Option MV ⊕ Nat
/-- what stays the same all through a run: first new address, heap at the start, the empty array of ArrayList, the script; class numbers, slots; array classes; the script's length and contents -/
abbrev GH : Type := Nat × Heap × Nat × Nat × va_G × (Nat → ClassId) × Nat × (Nat → Int32)
abbrev gb0 (G : GH) : Nat := G.1
abbrev gH0 (G : GH) : Heap := G.2.1
abbrev ge0 (G : GH) : Nat := G.2.2.1
abbrev gbs (G : GH) : Nat := G.2.2.2.1
abbrev gD (G : GH) : va_G := G.2.2.2.2.1
abbrev gaC (G : GH) : Nat → ClassId := G.2.2.2.2.2.1
abbrev gL (G : GH) : Nat := G.2.2.2.2.2.2.1
abbrev gxs (G : GH) : Nat → Int32 := G.2.2.2.2.2.2.2
def rho (G : GH) (p : Nat) : Nat := if p = 0 then ge0 G else if p = 1 then gbs G else gb0 G + (p - 2)
def rl (G : GH) : MV → Value
  | .inl z => .int (Int32.ofInt z)
  | .inr (.inl z) => .long (Int64.ofInt z)
  | .inr (.inr (.inl none)) => .null
  | .inr (.inr (.inl (some p))) => .ref (rho G p)
  | .inr (.inr (.inr _)) => .null
def mcat : MV → Nat
  | .inr (.inl _) => 2
  | _ => 1
theorem rl_cat (G : GH) (v : MV) : (rl G v).category = mcat v := by
  rcases v with z | z | (_ | p) | u <;> rfl
theorem rl_vr (G : GH) (r : Option Nat) : rl G (vr r) = va_rf (r.map (rho G)) := by
  cases r <;> rfl
/-! the classes -/
abbrev mcl : List vw_C := [(RX0, TX0, 21), (RX2, TX2, 6), (RX3, TX3, 6), (RJ2, TJ2, 3), (RX10, TX10, 2), (RX9, TX9, 2), (RX4, TX4, 6), (RX5, TX5, 4), (RX6, TX6, 1), (RX8, TX8, 7), (RX7, TX7, 33)]
def mty (ci : Nat) : Nat → FieldType := match ci with
  | 0 => tyX0
  | 1 => tyX2
  | 2 => tyX3
  | 3 => tyJ2
  | 4 => tyX10
  | 5 => tyX9
  | 6 => tyX4
  | 7 => tyX5
  | 8 => tyX6
  | 9 => tyX8
  | _ => tyX7
theorem mcl_in : ∀ (ci : Nat) (r : vw_C), mcl[ci]? = some r → ∀ w ∈ u_ws r.1 r.2.1 r.2.2, w ∈ lw_all
  | 0, r, h => by cases h; exact in_X0
  | 1, r, h => by cases h; exact in_X2
  | 2, r, h => by cases h; exact in_X3
  | 3, r, h => by cases h; exact in_J2
  | 4, r, h => by cases h; exact in_X10
  | 5, r, h => by cases h; exact in_X9
  | 6, r, h => by cases h; exact in_X4
  | 7, r, h => by cases h; exact in_X5
  | 8, r, h => by cases h; exact in_X6
  | 9, r, h => by cases h; exact in_X8
  | 10, r, h => by cases h; exact in_X7
  | _ + 11, r, h => by simp at h
theorem mcl_ty : ∀ (ci : Nat) (r : vw_C), mcl[ci]? = some r → ∀ k, k < r.2.2 → parseFieldDescriptor (r.2.1 k).2.2.1 = some (mty ci k)
  | 0, r, h => by cases h; exact tyX0_ok
  | 1, r, h => by cases h; exact tyX2_ok
  | 2, r, h => by cases h; exact tyX3_ok
  | 3, r, h => by cases h; exact tyJ2_ok
  | 4, r, h => by cases h; exact tyX10_ok
  | 5, r, h => by cases h; exact tyX9_ok
  | 6, r, h => by cases h; exact tyX4_ok
  | 7, r, h => by cases h; exact tyX5_ok
  | 8, r, h => by cases h; exact tyX6_ok
  | 9, r, h => by cases h; exact tyX8_ok
  | 10, r, h => by cases h; exact tyX7_ok
  | _ + 11, r, h => by simp at h
theorem mcl_nm : ∀ (ci : Nat) (r : vw_C), mcl[ci]? = some r → ∀ a, a < r.2.2 → ∀ b, b < r.2.2 → a ≠ b → (r.2.1 a).2.1 ≠ (r.2.1 b).2.1
  | 0, r, h => by cases h; exact nmX0
  | 1, r, h => by cases h; exact nmX2
  | 2, r, h => by cases h; exact nmX3
  | 3, r, h => by cases h; exact nmJ2
  | 4, r, h => by cases h; exact nmX10
  | 5, r, h => by cases h; exact nmX9
  | 6, r, h => by cases h; exact nmX4
  | 7, r, h => by cases h; exact nmX5
  | 8, r, h => by cases h; exact nmX6
  | 9, r, h => by cases h; exact nmX8
  | 10, r, h => by cases h; exact nmX7
  | _ + 11, r, h => by simp at h
/-! the arrays: 100 int, 101 boolean, 102 byte, 103 short, 104 Object, 105 int[], 106 Sheet -/
def maT (k : Nat) : FieldType := match k with
  | 0 => .int
  | 1 => .boolean
  | 2 => .byte
  | 3 => .short
  | 4 => .object "java/lang/Object"
  | 5 => .array .int
  | _ => .object "SoldWithIt$Sheet"
abbrev mtys (G : GH) : List (ClassId × FieldType) := [(gaC G 0, maT 0), (gaC G 1, maT 1), (gaC G 2, maT 2), (gaC G 3, maT 3), (gaC G 4, maT 4), (gaC G 5, maT 5), (gaC G 6, maT 6)]
/-! what a cell holds -/
def mfv (G : GH) (M : MH) (ci p k : Nat) : Value := if (mty ci k).isReference = true then va_rf ((mrv M p k).map (rho G)) else .int (Int32.ofInt (miv M p k))
def mav (G : GH) (M : MH) (ak p j : Nat) : Value := if 4 ≤ ak then va_rf ((mrv M p j).map (rho G)) else .int (Int32.ofInt (miv M p j))
def CellOK (G : GH) (M : MH) (p : Nat) (H : Heap) : Prop :=
  if (msh M p).1 < 50 then ∃ r : vw_C, mcl[(msh M p).1]? = some r ∧ t_OB (rho G p) ((gD G).1 (msh M p).1) r.2.2 ((gD G).2 (msh M p).1) H (mfv G M (msh M p).1 p)
  else if 100 ≤ (msh M p).1 then (msh M p).1 ≤ 106 ∧ H[rho G p]? = some (arrV (gaC G ((msh M p).1 - 100)) (msh M p).2 (mav G M ((msh M p).1 - 100) p))
  else if (msh M p).1 = 97 then ∃ cell : Cell, H[rho G p]? = some cell ∧ cell.cls = gaC G 4 ∧ cell.vm.isStatics = false ∧ cell.vm ≠ .unknown ∧ cell.slots.size = 0
  else True
abbrev mNC : Nat := 603072
abbrev mNS : Nat := 7262314
/-- the heap H holds the mini heap M -/
def Rel (G : GH) (M : MH) (H : Heap) : Prop :=
  (2 ≤ mhn M ∧ mhn M ≤ mNC ∧ mhs M ≤ mNS ∧ H.size + 2 = gb0 G + mhn M) ∧ (ge0 G < gb0 G ∧ gbs G < gb0 G ∧ msh M 0 = (97, 0) ∧ msh M 1 = (98, 0)) ∧ (∀ q : Nat, q < gb0 G → H[q]? = (gH0 G)[q]?) ∧ ∀ p : Nat, (msh M p).1 ≠ 99 → p < mhn M ∧ CellOK G M p H
theorem rho_ge {G : GH} {p : Nat} (h : 2 ≤ p) : rho G p = gb0 G + (p - 2) := by
  unfold rho
  rw [if_neg (by omega), if_neg (by omega)]
theorem rho_ne {G : GH} {p q : Nat} (he : ge0 G < gb0 G) (hb : gbs G < gb0 G) (hp : 2 ≤ p) (hq : q ≠ p) : rho G q ≠ rho G p := by
  rw [rho_ge hp]
  unfold rho
  split
  · omega
  · split
    · omega
    · omega
/-- an object's or an array's place is none of the two external ones -/
theorem Rel.ge {G : GH} {M : MH} {H : Heap} (h : Rel G M H) {p : Nat} (hp : (msh M p).1 < 97 ∨ 99 < (msh M p).1) : 2 ≤ p := by
  obtain ⟨-, ⟨-, -, h0, h1⟩, -⟩ := h
  rcases p with _ | _ | p
  · rw [h0] at hp; simp at hp
  · rw [h1] at hp; simp at hp
  · omega
theorem CellOK.kept {G : GH} {M M' : MH} {p : Nat} {H H' : Heap} (h : CellOK G M p H) (hs : msh M' p = msh M p) (hi : miv M' p = miv M p) (hr : mrv M' p = mrv M p) (hq : H'[rho G p]? = H[rho G p]?) : CellOK G M' p H' := by
  unfold CellOK at h ⊢
  rw [hs]
  split
  · rename_i h0
    rw [if_pos h0] at h
    obtain ⟨r, h1, h2⟩ := h
    refine ⟨r, h1, (h2.kept hq).to (fun k _ => ?_)⟩
    unfold mfv
    rw [hi, hr]
  · rename_i h0
    rw [if_neg h0] at h
    split
    · rename_i h1
      rw [if_pos h1] at h
      refine ⟨h.1, ?_⟩
      have e : mav G M' ((msh M p).1 - 100) p = mav G M ((msh M p).1 - 100) p := by
        funext j
        unfold mav
        rw [hi, hr]
      rw [hq, e]
      exact h.2
    · rename_i h1
      rw [if_neg h1] at h
      split
      · rename_i h2
        rw [if_pos h2] at h
        rw [hq]
        exact h
      · trivial
/-- one cell has changed, at place p; sizes and shapes are the same -/
theorem Rel.put {G : GH} {M M' : MH} {H H' : Heap} {p : Nat} (h : Rel G M H) (hp2 : 2 ≤ p) (hn : mhn M' = mhn M) (hs : mhs M' = mhs M) (hsh : msh M' = msh M) (hi : ∀ q, q ≠ p → miv M' q = miv M q) (hr : ∀ q, q ≠ p → mrv M' q = mrv M q)
    (hz : H'.size = H.size) (ho : ∀ q : Nat, q ≠ rho G p → H'[q]? = H[q]?) (hc : CellOK G M' p H') : Rel G M' H' := by
  obtain ⟨⟨a1, a2, a3, a4⟩, ⟨b1, b2, b3, b4⟩, c1, d1⟩ := h
  refine ⟨⟨by rw [hn]; exact a1, by rw [hn]; exact a2, by rw [hs]; exact a3, by rw [hz, hn]; exact a4⟩, ⟨b1, b2, by rw [hsh]; exact b3, by rw [hsh]; exact b4⟩, fun q hq => ?_, fun q hq => ?_⟩
  · rw [ho q (by rw [rho_ge hp2]; omega)]
    exact c1 q hq
  · rw [hsh] at hq
    obtain ⟨d2, d3⟩ := d1 q hq
    refine ⟨by rw [hn]; exact d2, ?_⟩
    by_cases e : q = p
    · subst e; exact hc
    · exact d3.kept (by rw [hsh]) (hi q e) (hr q e) (ho _ (rho_ne b1 b2 hp2 e))
/-- one more cell, at the end -/
theorem Rel.push {G : GH} {M : MH} {H H' : Heap} {k n : Nat} (h : Rel G M H) (hcap : mhn M + 1 ≤ mNC) (hcas : mhs M + n ≤ mNS) (hz : H'.size = H.size + 1) (ho : ∀ q : Nat, q < H.size → H'[q]? = H[q]?) (hc : CellOK G (wN M k n) (mhn M) H') : Rel G (wN M k n) H' := by
  obtain ⟨⟨a1, a2, a3, a4⟩, ⟨b1, b2, b3, b4⟩, c1, d1⟩ := h
  have e0 : ∀ q, q ≠ mhn M → msh (wN M k n) q = msh M q := fun q hq => by simp [msh, wN, hq]
  refine ⟨⟨by show 2 ≤ mhn M + 1; omega, hcap, hcas, by show H'.size + 2 = gb0 G + (mhn M + 1); omega⟩, ⟨b1, b2, by rw [e0 0 (by omega)]; exact b3, by rw [e0 1 (by omega)]; exact b4⟩, fun q hq => ?_, fun q hq => ?_⟩
  · rw [ho q (by omega)]; exact c1 q hq
  · by_cases e : q = mhn M
    · subst e
      exact ⟨by show mhn M < mhn M + 1; omega, hc⟩
    · rw [e0 q e] at hq
      obtain ⟨d2, d3⟩ := d1 q hq
      refine ⟨by show q < mhn M + 1; omega, d3.kept (e0 q e) (by funext j; simp [miv, wN, e]) (by funext j; simp [mrv, wN, e]) (ho _ ?_)⟩
      unfold rho
      split
      · omega
      · split
        · omega
        · omega
/-! what an object's cell says -/
theorem Rel.obj {G : GH} {M : MH} {H : Heap} (h : Rel G M H) {p ci : Nat} {r : vw_C} (hc : mcl[ci]? = some r) (hs : (msh M p).1 = ci) : t_OB (rho G p) ((gD G).1 ci) r.2.2 ((gD G).2 ci) H (mfv G M ci p) := by
  have hlt : ci < 11 := (List.getElem?_eq_some_iff.mp hc).1
  obtain ⟨-, -, -, d1⟩ := h
  have d2 := (d1 p (by omega)).2
  unfold CellOK at d2
  rw [if_pos (by omega), hs] at d2
  obtain ⟨r', h1, h2⟩ := d2
  cases hc.symm.trans h1
  exact h2
theorem Rel.arr {G : GH} {M : MH} {H : Heap} (h : Rel G M H) {p ak n : Nat} (hs : msh M p = (100 + ak, n)) : ak ≤ 6 ∧ H[rho G p]? = some (arrV (gaC G ak) n (mav G M ak p)) := by
  obtain ⟨-, -, -, d1⟩ := h
  have d2 := (d1 p (by rw [hs]; show 100 + ak ≠ 99; omega)).2
  unfold CellOK at d2
  rw [hs] at d2
  dsimp only at d2
  rw [if_neg (by omega), if_pos (by omega)] at d2
  rw [show 100 + ak - 100 = ak by omega] at d2
  exact ⟨by omega, d2.2⟩
theorem CellOK.ofObj {G : GH} {M : MH} {H : Heap} {p ci : Nat} {r : vw_C} (hc : mcl[ci]? = some r) (hs : (msh M p).1 = ci) (h : t_OB (rho G p) ((gD G).1 ci) r.2.2 ((gD G).2 ci) H (mfv G M ci p)) : CellOK G M p H := by
  have hlt : ci < 11 := (List.getElem?_eq_some_iff.mp hc).1
  unfold CellOK
  rw [if_pos (by omega), hs]
  exact ⟨r, hc, h⟩
theorem CellOK.ofArr {G : GH} {M : MH} {H : Heap} {p ak n : Nat} (hk : ak ≤ 6) (hs : msh M p = (100 + ak, n)) (h : H[rho G p]? = some (arrV (gaC G ak) n (mav G M ak p))) : CellOK G M p H := by
  unfold CellOK
  rw [hs]
  dsimp only
  rw [if_neg (by omega), if_pos (by omega), show 100 + ak - 100 = ak by omega]
  exact ⟨by omega, h⟩
