set_option maxRecDepth 100000
/-! J0_init -/
theorem dJ0_init_0 : decode cJ0_init 0 = .ok (.aload_n 0, 1) := by decide +kernel
theorem iJ0_init_0 {d : Nat} {r S : List MV} {M : MH} {Q : Out → MH → Prop} {o : Option Nat} (k : MW mJ0_init d 1 (vr o :: r) (vr o :: S) M Q) : MW mJ0_init d 0 (vr o :: r) S M Q := mw_aload_n ⟨dJ0_init_0, rfl⟩ rfl k
theorem dJ0_init_1 : decode cJ0_init 1 = .ok (.invokespecial 1, 3) := by decide +kernel
theorem iJ0_init_1 {d : Nat} {L S : List MV} {M : MH} {Q : Out → MH → Prop} {a : Nat} (k : MW mJ0_init (d + 1) 4 L S M Q) (h8 : Nat.ble (S.map mcat).sum 8 = true := by rfl) : MW mJ0_init (d + 1) 1 L (vp a :: S) M Q := mw_objInit ⟨dJ0_init_1, rfl⟩ q147 q125 q126 (Nat.le_of_ble_eq_true h8) k
theorem dJ0_init_4 : decode cJ0_init 4 = .ok (.return_, 1) := by decide +kernel
theorem iJ0_init_4 {d : Nat} {L : List MV} {M : MH} {P : MH → Prop} (hq : P M) : MW mJ0_init d 4 L [] M (Rv P) := mw_retv ⟨dJ0_init_4, rfl⟩ rfl hq
/-! J1_init -/
def dkwJ1_init_0 : List UInt8 := [42, 183, 0, 1, 42, 3, 181, 0, 7, 177]
abbrev dktJ1_init_0 : List UInt8 := dkwJ1_init_0 ++ []
theorem dksJ1_init_0 : cJ1_init.data.toList.drop 0 = dktJ1_init_0 := by decide +kernel
theorem dJ1_init_0 : decode cJ1_init 0 = .ok (.aload_n 0, 1) := dk_42 (dk_at dksJ1_init_0 0 rfl rfl)
theorem iJ1_init_0 {d : Nat} {r S : List MV} {M : MH} {Q : Out → MH → Prop} {o : Option Nat} (k : MW mJ1_init d 1 (vr o :: r) (vr o :: S) M Q) : MW mJ1_init d 0 (vr o :: r) S M Q := mw_aload_n ⟨dJ1_init_0, rfl⟩ rfl k
theorem dJ1_init_1 : decode cJ1_init 1 = .ok (.invokespecial 1, 3) := dk_183 0 1 (dk_at dksJ1_init_0 1 rfl rfl)
theorem iJ1_init_1 {d : Nat} {L S : List MV} {M : MH} {Q : Out → MH → Prop} {b : Nat} {P : MH → Prop} (hM : MCv mJ0_init d [vp b] M P) (k : ∀ M', P M' → MW mJ1_init (d + 1) 4 L S M' Q) (h8 : Nat.ble (S.map mcat).sum 8 = true := by rfl) : MW mJ1_init (d + 1) 1 L (vp b :: S) M Q := mw_callv (as := [vp b]) (site_I (Y' := mJ0_init) (n := 0) ⟨dJ1_init_1, rfl⟩ (Or.inl q144) q145 q146 rfl nJ0_init hJ0_init rfl) kJ0_init (Nat.le_of_ble_eq_true h8) hM k
theorem dJ1_init_4 : decode cJ1_init 4 = .ok (.aload_n 0, 1) := dk_42 (dk_at dksJ1_init_0 4 rfl rfl)
theorem iJ1_init_4 {d : Nat} {r S : List MV} {M : MH} {Q : Out → MH → Prop} {o : Option Nat} (k : MW mJ1_init d 5 (vr o :: r) (vr o :: S) M Q) : MW mJ1_init d 4 (vr o :: r) S M Q := mw_aload_n ⟨dJ1_init_4, rfl⟩ rfl k
theorem dJ1_init_5 : decode cJ1_init 5 = .ok (.iconst 0, 1) := dk_3 (dk_at dksJ1_init_0 5 rfl rfl)
theorem iJ1_init_5 {d : Nat} {L S : List MV} {M : MH} {Q : Out → MH → Prop}  (k : MW mJ1_init d 6 (L) (vi 0 :: S) M Q) : MW mJ1_init d 5 (L) S M Q := mw_iconst ⟨dJ1_init_5, rfl⟩ k
theorem dJ1_init_6 : decode cJ1_init 6 = .ok (.putfield 7, 3) := dk_181 0 7 (dk_at dksJ1_init_0 6 rfl rfl)
theorem iJ1_init_6 {d : Nat} {L S : List MV} {M : MH} {Q : Out → MH → Prop} {a : Nat} {z : Int} (hs : (msh M a).1 = 3) (k : MW mJ1_init d 9 L S (wI M a 0 z) Q) : MW mJ1_init d 6 L (vi z :: vp a :: S) M Q := mw_putI (ci := 3) (k := 0) ⟨dJ1_init_6, rfl⟩ ⟨_, rfl, Nat.le_of_ble_eq_true rfl, Or.inl ⟨rfl, Or.inl q152⟩⟩ rfl hs k
theorem dJ1_init_9 : decode cJ1_init 9 = .ok (.return_, 1) := dk_177 (dk_at dksJ1_init_0 9 rfl rfl)
theorem iJ1_init_9 {d : Nat} {L : List MV} {M : MH} {P : MH → Prop} (hq : P M) : MW mJ1_init d 9 L [] M (Rv P) := mw_retv ⟨dJ1_init_9, rfl⟩ rfl hq
/-! J2_init -/
def dkwJ2_init_0 : List UInt8 := [42, 183, 0, 1, 42, 178, 0, 39, 181, 0, 9, 177]
abbrev dktJ2_init_0 : List UInt8 := dkwJ2_init_0 ++ []
theorem dksJ2_init_0 : cJ2_init.data.toList.drop 0 = dktJ2_init_0 := by decide +kernel
theorem dJ2_init_0 : decode cJ2_init 0 = .ok (.aload_n 0, 1) := dk_42 (dk_at dksJ2_init_0 0 rfl rfl)
theorem iJ2_init_0 {d : Nat} {r S : List MV} {M : MH} {Q : Out → MH → Prop} {o : Option Nat} (k : MW mJ2_init d 1 (vr o :: r) (vr o :: S) M Q) : MW mJ2_init d 0 (vr o :: r) S M Q := mw_aload_n ⟨dJ2_init_0, rfl⟩ rfl k
theorem dJ2_init_1 : decode cJ2_init 1 = .ok (.invokespecial 1, 3) := dk_183 0 1 (dk_at dksJ2_init_0 1 rfl rfl)
theorem iJ2_init_1 {d : Nat} {L S : List MV} {M : MH} {Q : Out → MH → Prop} {b : Nat} {P : MH → Prop} (hM : MCv mJ1_init d [vp b] M P) (k : ∀ M', P M' → MW mJ2_init (d + 1) 4 L S M' Q) (h8 : Nat.ble (S.map mcat).sum 8 = true := by rfl) : MW mJ2_init (d + 1) 1 L (vp b :: S) M Q := mw_callv (as := [vp b]) (site_I (Y' := mJ1_init) (n := 0) ⟨dJ2_init_1, rfl⟩ (Or.inl q141) q142 q143 rfl nJ1_init hJ1_init rfl) kJ1_init (Nat.le_of_ble_eq_true h8) hM k
theorem dJ2_init_4 : decode cJ2_init 4 = .ok (.aload_n 0, 1) := dk_42 (dk_at dksJ2_init_0 4 rfl rfl)
theorem iJ2_init_4 {d : Nat} {r S : List MV} {M : MH} {Q : Out → MH → Prop} {o : Option Nat} (k : MW mJ2_init d 5 (vr o :: r) (vr o :: S) M Q) : MW mJ2_init d 4 (vr o :: r) S M Q := mw_aload_n ⟨dJ2_init_4, rfl⟩ rfl k
theorem dJ2_init_5 : decode cJ2_init 5 = .ok (.getstatic 39, 3) := dk_178 0 39 (dk_at dksJ2_init_0 5 rfl rfl)
theorem iJ2_init_5 {d : Nat} {L S : List MV} {M : MH} {Q : Out → MH → Prop}  (k : MW mJ2_init d 8 (L) (vp 0 :: S) M Q) : MW mJ2_init d 5 (L) S M Q := mw_gets0 ⟨dJ2_init_5, rfl⟩ q148 k
theorem dJ2_init_8 : decode cJ2_init 8 = .ok (.putfield 9, 3) := dk_181 0 9 (dk_at dksJ2_init_0 8 rfl rfl)
theorem iJ2_init_8 {d : Nat} {L S : List MV} {M : MH} {Q : Out → MH → Prop} {a : Nat} {o : Option Nat} (hs : (msh M a).1 = 3) (k : MW mJ2_init d 11 L S (wR M a 1 o) Q) : MW mJ2_init d 8 L (vr o :: vp a :: S) M Q := mw_putR (ci := 3) (k := 1) ⟨dJ2_init_8, rfl⟩ ⟨_, rfl, Nat.le_of_ble_eq_true rfl, Or.inl ⟨rfl, Or.inl q150⟩⟩ (Or.inr ⟨_, rfl⟩) hs k
theorem dJ2_init_11 : decode cJ2_init 11 = .ok (.return_, 1) := dk_177 (dk_at dksJ2_init_0 11 rfl rfl)
theorem iJ2_init_11 {d : Nat} {L : List MV} {M : MH} {P : MH → Prop} (hq : P M) : MW mJ2_init d 11 L [] M (Rv P) := mw_retv ⟨dJ2_init_11, rfl⟩ rfl hq
/-! J2_clear -/
def dkwJ2_clear_1 : List UInt8 := [181, 0, 48, 62, 29, 28, 162, 0, 13, 43, 29, 1, 83, 132, 3, 1, 167, 255, 244, 177]
abbrev dktJ2_clear_1 : List UInt8 := dkwJ2_clear_1 ++ []
def dkwJ2_clear_0 : List UInt8 := [42, 89, 180, 0, 63, 4, 96, 181, 0, 63, 42, 180, 0, 9, 76, 42, 180, 0, 48, 61, 42, 3, 90]
abbrev dktJ2_clear_0 : List UInt8 := dkwJ2_clear_0 ++ dktJ2_clear_1
theorem dksJ2_clear_0 : cJ2_clear.data.toList.drop 0 = dktJ2_clear_0 := by decide +kernel
theorem dksJ2_clear_1 : cJ2_clear.data.toList.drop 23 = dktJ2_clear_1 := dk_seg dksJ2_clear_0 23 rfl rfl
theorem dJ2_clear_0 : decode cJ2_clear 0 = .ok (.aload_n 0, 1) := dk_42 (dk_at dksJ2_clear_0 0 rfl rfl)
theorem iJ2_clear_0 {d : Nat} {r S : List MV} {M : MH} {Q : Out → MH → Prop} {o : Option Nat} (k : MW mJ2_clear d 1 (vr o :: r) (vr o :: S) M Q) : MW mJ2_clear d 0 (vr o :: r) S M Q := mw_aload_n ⟨dJ2_clear_0, rfl⟩ rfl k
theorem dJ2_clear_1 : decode cJ2_clear 1 = .ok (.dup, 1) := dk_89 (dk_at dksJ2_clear_0 1 rfl rfl)
theorem iJ2_clear_1 {d : Nat} {L S : List MV} {M : MH} {Q : Out → MH → Prop} {v : MV} (k : MW mJ2_clear d 2 L (v :: v :: S) M Q) (hv : mcat v = 1 := by rfl) : MW mJ2_clear d 1 L (v :: S) M Q := mw_dup ⟨dJ2_clear_1, rfl⟩ hv k
theorem dJ2_clear_2 : decode cJ2_clear 2 = .ok (.getfield 63, 3) := dk_180 0 63 (dk_at dksJ2_clear_0 2 rfl rfl)
theorem iJ2_clear_2 {d : Nat} {L S : List MV} {M : MH} {Q : Out → MH → Prop} {a : Nat} (hs : (msh M a).1 = 3) (k : MW mJ2_clear d 5 L (vi (miv M a 0) :: S) M Q) : MW mJ2_clear d 2 L (vp a :: S) M Q := mw_getI (ci := 3) (k := 0) ⟨dJ2_clear_2, rfl⟩ ⟨_, rfl, Nat.le_of_ble_eq_true rfl, Or.inr (Or.inl ⟨_, q153, q154⟩)⟩ rfl hs k
theorem dJ2_clear_5 : decode cJ2_clear 5 = .ok (.iconst 1, 1) := dk_4 (dk_at dksJ2_clear_0 5 rfl rfl)
theorem iJ2_clear_5 {d : Nat} {L S : List MV} {M : MH} {Q : Out → MH → Prop}  (k : MW mJ2_clear d 6 (L) (vi 1 :: S) M Q) : MW mJ2_clear d 5 (L) S M Q := mw_iconst ⟨dJ2_clear_5, rfl⟩ k
theorem dJ2_clear_6 : decode cJ2_clear 6 = .ok (.iadd, 1) := dk_96 (dk_at dksJ2_clear_0 6 rfl rfl)
theorem iJ2_clear_6 {d : Nat} {L S : List MV} {M : MH} {Q : Out → MH → Prop} {a b : Int} (k : MW mJ2_clear d 7 (L) (vi (a + b) :: S) M Q) : MW mJ2_clear d 6 (L) (vi b :: vi a :: S) M Q := mw_iadd ⟨dJ2_clear_6, rfl⟩ k
theorem dJ2_clear_7 : decode cJ2_clear 7 = .ok (.putfield 63, 3) := dk_181 0 63 (dk_at dksJ2_clear_0 7 rfl rfl)
theorem iJ2_clear_7 {d : Nat} {L S : List MV} {M : MH} {Q : Out → MH → Prop} {a : Nat} {z : Int} (hs : (msh M a).1 = 3) (k : MW mJ2_clear d 10 L S (wI M a 0 z) Q) : MW mJ2_clear d 7 L (vi z :: vp a :: S) M Q := mw_putI (ci := 3) (k := 0) ⟨dJ2_clear_7, rfl⟩ ⟨_, rfl, Nat.le_of_ble_eq_true rfl, Or.inl ⟨rfl, Or.inr (Or.inl ⟨_, q153, q154⟩)⟩⟩ rfl hs k
theorem dJ2_clear_10 : decode cJ2_clear 10 = .ok (.aload_n 0, 1) := dk_42 (dk_at dksJ2_clear_0 10 rfl rfl)
theorem iJ2_clear_10 {d : Nat} {r S : List MV} {M : MH} {Q : Out → MH → Prop} {o : Option Nat} (k : MW mJ2_clear d 11 (vr o :: r) (vr o :: S) M Q) : MW mJ2_clear d 10 (vr o :: r) S M Q := mw_aload_n ⟨dJ2_clear_10, rfl⟩ rfl k
theorem dJ2_clear_11 : decode cJ2_clear 11 = .ok (.getfield 9, 3) := dk_180 0 9 (dk_at dksJ2_clear_0 11 rfl rfl)
theorem iJ2_clear_11 {d : Nat} {L S : List MV} {M : MH} {Q : Out → MH → Prop} {a : Nat} {o : Option Nat} (hs : (msh M a).1 = 3) (hr : mrv M a 1 = o) (k : MW mJ2_clear d 14 L (vr o :: S) M Q) : MW mJ2_clear d 11 L (vp a :: S) M Q := mw_getR (ci := 3) (k := 1) ⟨dJ2_clear_11, rfl⟩ ⟨_, rfl, Nat.le_of_ble_eq_true rfl, Or.inl q150⟩ rfl hs hr k
theorem dJ2_clear_14 : decode cJ2_clear 14 = .ok (.astore_n 1, 1) := dk_76 (dk_at dksJ2_clear_0 14 rfl rfl)
theorem iJ2_clear_14 {d : Nat} {r S : List MV} {M : MH} {Q : Out → MH → Prop} {w0 : MV} {o : Option Nat} {v : MV} (k : MW mJ2_clear d 15 (w0 :: vr o :: r) S M Q) (hok : okSt (w0 :: v :: r) 1 = true := by rfl) : MW mJ2_clear d 14 (w0 :: v :: r) (vr o :: S) M Q := mw_astore_n (i := 1) ⟨dJ2_clear_14, rfl⟩ rfl (Nat.le_of_ble_eq_true rfl) hok k
theorem dJ2_clear_15 : decode cJ2_clear 15 = .ok (.aload_n 0, 1) := dk_42 (dk_at dksJ2_clear_0 15 rfl rfl)
theorem iJ2_clear_15 {d : Nat} {r S : List MV} {M : MH} {Q : Out → MH → Prop} {o : Option Nat} (k : MW mJ2_clear d 16 (vr o :: r) (vr o :: S) M Q) : MW mJ2_clear d 15 (vr o :: r) S M Q := mw_aload_n ⟨dJ2_clear_15, rfl⟩ rfl k
theorem dJ2_clear_16 : decode cJ2_clear 16 = .ok (.getfield 48, 3) := dk_180 0 48 (dk_at dksJ2_clear_0 16 rfl rfl)
theorem iJ2_clear_16 {d : Nat} {L S : List MV} {M : MH} {Q : Out → MH → Prop} {a : Nat} (hs : (msh M a).1 = 3) (k : MW mJ2_clear d 19 L (vi (miv M a 2) :: S) M Q) : MW mJ2_clear d 16 L (vp a :: S) M Q := mw_getI (ci := 3) (k := 2) ⟨dJ2_clear_16, rfl⟩ ⟨_, rfl, Nat.le_of_ble_eq_true rfl, Or.inl q151⟩ rfl hs k
theorem dJ2_clear_19 : decode cJ2_clear 19 = .ok (.istore_n 2, 1) := dk_61 (dk_at dksJ2_clear_0 19 rfl rfl)
theorem iJ2_clear_19 {d : Nat} {r S : List MV} {M : MH} {Q : Out → MH → Prop} {w0 w1 : MV} {z : Int} {v : MV} (k : MW mJ2_clear d 20 (w0 :: w1 :: vi z :: r) S M Q) (hok : okSt (w0 :: w1 :: v :: r) 2 = true := by rfl) : MW mJ2_clear d 19 (w0 :: w1 :: v :: r) (vi z :: S) M Q := mw_istore_n (i := 2) ⟨dJ2_clear_19, rfl⟩ rfl (Nat.le_of_ble_eq_true rfl) hok k
theorem dJ2_clear_20 : decode cJ2_clear 20 = .ok (.aload_n 0, 1) := dk_42 (dk_at dksJ2_clear_0 20 rfl rfl)
theorem iJ2_clear_20 {d : Nat} {r S : List MV} {M : MH} {Q : Out → MH → Prop} {o : Option Nat} (k : MW mJ2_clear d 21 (vr o :: r) (vr o :: S) M Q) : MW mJ2_clear d 20 (vr o :: r) S M Q := mw_aload_n ⟨dJ2_clear_20, rfl⟩ rfl k
theorem dJ2_clear_21 : decode cJ2_clear 21 = .ok (.iconst 0, 1) := dk_3 (dk_at dksJ2_clear_0 21 rfl rfl)
theorem iJ2_clear_21 {d : Nat} {L S : List MV} {M : MH} {Q : Out → MH → Prop}  (k : MW mJ2_clear d 22 (L) (vi 0 :: S) M Q) : MW mJ2_clear d 21 (L) S M Q := mw_iconst ⟨dJ2_clear_21, rfl⟩ k
theorem dJ2_clear_22 : decode cJ2_clear 22 = .ok (.dup_x1, 1) := dk_90 (dk_at dksJ2_clear_0 22 rfl rfl)
theorem iJ2_clear_22 {d : Nat} {L S : List MV} {M : MH} {Q : Out → MH → Prop} {v w : MV} (k : MW mJ2_clear d 23 L (v :: w :: v :: S) M Q) (hv : mcat v = 1 := by rfl) (hw : mcat w = 1 := by rfl) : MW mJ2_clear d 22 L (v :: w :: S) M Q := mw_dup_x1 ⟨dJ2_clear_22, rfl⟩ hv hw k
theorem dJ2_clear_23 : decode cJ2_clear 23 = .ok (.putfield 48, 3) := dk_181 0 48 (dk_at dksJ2_clear_1 0 rfl rfl)
theorem iJ2_clear_23 {d : Nat} {L S : List MV} {M : MH} {Q : Out → MH → Prop} {a : Nat} {z : Int} (hs : (msh M a).1 = 3) (k : MW mJ2_clear d 26 L S (wI M a 2 z) Q) : MW mJ2_clear d 23 L (vi z :: vp a :: S) M Q := mw_putI (ci := 3) (k := 2) ⟨dJ2_clear_23, rfl⟩ ⟨_, rfl, Nat.le_of_ble_eq_true rfl, Or.inl ⟨rfl, Or.inl q151⟩⟩ rfl hs k
theorem dJ2_clear_26 : decode cJ2_clear 26 = .ok (.istore_n 3, 1) := dk_62 (dk_at dksJ2_clear_1 3 rfl rfl)
theorem iJ2_clear_26 {d : Nat} {r S : List MV} {M : MH} {Q : Out → MH → Prop} {w0 w1 w2 : MV} {z : Int} {v : MV} (k : MW mJ2_clear d 27 (w0 :: w1 :: w2 :: vi z :: r) S M Q) (hok : okSt (w0 :: w1 :: w2 :: v :: r) 3 = true := by rfl) : MW mJ2_clear d 26 (w0 :: w1 :: w2 :: v :: r) (vi z :: S) M Q := mw_istore_n (i := 3) ⟨dJ2_clear_26, rfl⟩ rfl (Nat.le_of_ble_eq_true rfl) hok k
theorem dJ2_clear_27 : decode cJ2_clear 27 = .ok (.iload_n 3, 1) := dk_29 (dk_at dksJ2_clear_1 4 rfl rfl)
theorem iJ2_clear_27 {d : Nat} {r S : List MV} {M : MH} {Q : Out → MH → Prop} {w0 w1 w2 : MV} {z : Int} (k : MW mJ2_clear d 28 (w0 :: w1 :: w2 :: vi z :: r) (vi z :: S) M Q) : MW mJ2_clear d 27 (w0 :: w1 :: w2 :: vi z :: r) S M Q := mw_iload_n ⟨dJ2_clear_27, rfl⟩ rfl k
theorem dJ2_clear_28 : decode cJ2_clear 28 = .ok (.iload_n 2, 1) := dk_28 (dk_at dksJ2_clear_1 5 rfl rfl)
theorem iJ2_clear_28 {d : Nat} {r S : List MV} {M : MH} {Q : Out → MH → Prop} {w0 w1 : MV} {z : Int} (k : MW mJ2_clear d 29 (w0 :: w1 :: vi z :: r) (vi z :: S) M Q) : MW mJ2_clear d 28 (w0 :: w1 :: vi z :: r) S M Q := mw_iload_n ⟨dJ2_clear_28, rfl⟩ rfl k
theorem dJ2_clear_29 : decode cJ2_clear 29 = .ok (.if_icmp .ge 13, 3) := dk_162 0 13 (dk_at dksJ2_clear_1 6 rfl rfl)
theorem iJ2_clear_29 {d : Nat} {L S : List MV} {M : MH} {Q : Out → MH → Prop} {a b : Int} (ha : inR a) (hb : inR b) (kt : b ≤ a → MW mJ2_clear d 42 L S M Q) (kf : ¬ b ≤ a → MW mJ2_clear d 32 L S M Q) : MW mJ2_clear d 29 L (vi b :: vi a :: S) M Q := mw_icmp_ge ⟨dJ2_clear_29, rfl⟩ rfl ha hb kt kf
theorem dJ2_clear_32 : decode cJ2_clear 32 = .ok (.aload_n 1, 1) := dk_43 (dk_at dksJ2_clear_1 9 rfl rfl)
theorem iJ2_clear_32 {d : Nat} {r S : List MV} {M : MH} {Q : Out → MH → Prop} {w0 : MV} {o : Option Nat} (k : MW mJ2_clear d 33 (w0 :: vr o :: r) (vr o :: S) M Q) : MW mJ2_clear d 32 (w0 :: vr o :: r) S M Q := mw_aload_n ⟨dJ2_clear_32, rfl⟩ rfl k
theorem dJ2_clear_33 : decode cJ2_clear 33 = .ok (.iload_n 3, 1) := dk_29 (dk_at dksJ2_clear_1 10 rfl rfl)
theorem iJ2_clear_33 {d : Nat} {r S : List MV} {M : MH} {Q : Out → MH → Prop} {w0 w1 w2 : MV} {z : Int} (k : MW mJ2_clear d 34 (w0 :: w1 :: w2 :: vi z :: r) (vi z :: S) M Q) : MW mJ2_clear d 33 (w0 :: w1 :: w2 :: vi z :: r) S M Q := mw_iload_n ⟨dJ2_clear_33, rfl⟩ rfl k
theorem dJ2_clear_34 : decode cJ2_clear 34 = .ok (.aconst_null, 1) := dk_1 (dk_at dksJ2_clear_1 11 rfl rfl)
theorem iJ2_clear_34 {d : Nat} {L S : List MV} {M : MH} {Q : Out → MH → Prop}  (k : MW mJ2_clear d 35 (L) (vr none :: S) M Q) : MW mJ2_clear d 34 (L) S M Q := mw_null ⟨dJ2_clear_34, rfl⟩ k
theorem dJ2_clear_35 : decode cJ2_clear 35 = .ok (.aastore, 1) := dk_83 (dk_at dksJ2_clear_1 12 rfl rfl)
theorem iJ2_clear_35 {d : Nat} {L S : List MV} {M : MH} {Q : Out → MH → Prop} {a n q : Nat} {z : Int} {C0 : String} (hs : msh M a = (104, n)) (hn : n ≤ 2147483647) (hi : 0 ≤ z ∧ z < n) (hC : ClsOf M q C0) (hcs : Cond.castable C0 "java/lang/Object" ∈ lw_big) (k : MW mJ2_clear d 36 L S (wR M a z.toNat (some q)) Q) : MW mJ2_clear d 35 L (vp q :: vi z :: vp a :: S) M Q := mw_aastore (ak := 4) ⟨dJ2_clear_35, rfl⟩ hs (Or.inl rfl) hn hi hC (Or.inl ⟨rfl, hcs⟩) k
theorem iJ2_clear_35N {d : Nat} {L S : List MV} {M : MH} {Q : Out → MH → Prop} {a n : Nat} {z : Int} (hs : msh M a = (104, n)) (hn : n ≤ 2147483647) (hi : 0 ≤ z ∧ z < n) (k : MW mJ2_clear d 36 L S (wR M a z.toNat none) Q) : MW mJ2_clear d 35 L (vr none :: vi z :: vp a :: S) M Q := mw_aastoreN ⟨dJ2_clear_35, rfl⟩ hs hn hi k
theorem iJ2_clear_35S {d : Nat} {L S : List MV} {M : MH} {Q : Out → MH → Prop} {a n q : Nat} {z : Int} (hs : msh M a = (106, n)) (hn : n ≤ 2147483647) (hi : 0 ≤ z ∧ z < n) (hq : (msh M q).1 = 8) (k : MW mJ2_clear d 36 L S (wR M a z.toNat (some q)) Q) : MW mJ2_clear d 35 L (vp q :: vi z :: vp a :: S) M Q := mw_aastore (ak := 6) ⟨dJ2_clear_35, rfl⟩ hs (Or.inr rfl) hn hi (cls_of (ci := 8) rfl hq) (Or.inr ⟨rfl, rfl, hq⟩) k
theorem dJ2_clear_36 : decode cJ2_clear 36 = .ok (.iinc 3 1, 3) := dk_132 3 1 (dk_at dksJ2_clear_1 13 rfl rfl)
theorem iJ2_clear_36 {d : Nat} {r S : List MV} {M : MH} {Q : Out → MH → Prop} {w0 w1 w2 : MV} {z : Int} (k : MW mJ2_clear d 39 (w0 :: w1 :: w2 :: vi (z + 1) :: r) S M Q) (hok : okSt (w0 :: w1 :: w2 :: vi z :: r) 3 = true := by rfl) : MW mJ2_clear d 36 (w0 :: w1 :: w2 :: vi z :: r) S M Q := mw_iinc (i := 3) ⟨dJ2_clear_36, rfl⟩ rfl (Nat.le_of_ble_eq_true rfl) hok k
theorem dJ2_clear_39 : decode cJ2_clear 39 = .ok (.goto (-12), 3) := dk_167 255 244 (dk_at dksJ2_clear_1 16 rfl rfl)
theorem iJ2_clear_39 {d : Nat} {L S : List MV} {M : MH} {Q : Out → MH → Prop}  (k : MW mJ2_clear d 27 (L) S M Q) : MW mJ2_clear d 39 (L) S M Q := mw_goto ⟨dJ2_clear_39, rfl⟩ rfl k
theorem dJ2_clear_42 : decode cJ2_clear 42 = .ok (.return_, 1) := dk_177 (dk_at dksJ2_clear_1 19 rfl rfl)
theorem iJ2_clear_42 {d : Nat} {L : List MV} {M : MH} {P : MH → Prop} (hq : P M) : MW mJ2_clear d 42 L [] M (Rv P) := mw_retv ⟨dJ2_clear_42, rfl⟩ rfl hq
/-! J2_isEmpty -/
def dkwJ2_isEmpty_0 : List UInt8 := [42, 180, 0, 48, 154, 0, 7, 4, 167, 0, 4, 3, 172]
abbrev dktJ2_isEmpty_0 : List UInt8 := dkwJ2_isEmpty_0 ++ []
theorem dksJ2_isEmpty_0 : cJ2_isEmpty.data.toList.drop 0 = dktJ2_isEmpty_0 := by decide +kernel
theorem dJ2_isEmpty_0 : decode cJ2_isEmpty 0 = .ok (.aload_n 0, 1) := dk_42 (dk_at dksJ2_isEmpty_0 0 rfl rfl)
theorem iJ2_isEmpty_0 {d : Nat} {r S : List MV} {M : MH} {Q : Out → MH → Prop} {o : Option Nat} (k : MW mJ2_isEmpty d 1 (vr o :: r) (vr o :: S) M Q) : MW mJ2_isEmpty d 0 (vr o :: r) S M Q := mw_aload_n ⟨dJ2_isEmpty_0, rfl⟩ rfl k
theorem dJ2_isEmpty_1 : decode cJ2_isEmpty 1 = .ok (.getfield 48, 3) := dk_180 0 48 (dk_at dksJ2_isEmpty_0 1 rfl rfl)
theorem iJ2_isEmpty_1 {d : Nat} {L S : List MV} {M : MH} {Q : Out → MH → Prop} {a : Nat} (hs : (msh M a).1 = 3) (k : MW mJ2_isEmpty d 4 L (vi (miv M a 2) :: S) M Q) : MW mJ2_isEmpty d 1 L (vp a :: S) M Q := mw_getI (ci := 3) (k := 2) ⟨dJ2_isEmpty_1, rfl⟩ ⟨_, rfl, Nat.le_of_ble_eq_true rfl, Or.inl q151⟩ rfl hs k
theorem dJ2_isEmpty_4 : decode cJ2_isEmpty 4 = .ok (.ifCond .ne 7, 3) := dk_154 0 7 (dk_at dksJ2_isEmpty_0 4 rfl rfl)
theorem iJ2_isEmpty_4 {d : Nat} {L S : List MV} {M : MH} {Q : Out → MH → Prop} {a : Int} (ha : inR a) (kt : a ≠ 0 → MW mJ2_isEmpty d 11 L S M Q) (kf : a = 0 → MW mJ2_isEmpty d 7 L S M Q) : MW mJ2_isEmpty d 4 L (vi a :: S) M Q := mw_if_ne ⟨dJ2_isEmpty_4, rfl⟩ rfl ha kt kf
theorem dJ2_isEmpty_7 : decode cJ2_isEmpty 7 = .ok (.iconst 1, 1) := dk_4 (dk_at dksJ2_isEmpty_0 7 rfl rfl)
theorem iJ2_isEmpty_7 {d : Nat} {L S : List MV} {M : MH} {Q : Out → MH → Prop}  (k : MW mJ2_isEmpty d 8 (L) (vi 1 :: S) M Q) : MW mJ2_isEmpty d 7 (L) S M Q := mw_iconst ⟨dJ2_isEmpty_7, rfl⟩ k
theorem dJ2_isEmpty_8 : decode cJ2_isEmpty 8 = .ok (.goto 4, 3) := dk_167 0 4 (dk_at dksJ2_isEmpty_0 8 rfl rfl)
theorem iJ2_isEmpty_8 {d : Nat} {L S : List MV} {M : MH} {Q : Out → MH → Prop}  (k : MW mJ2_isEmpty d 12 (L) S M Q) : MW mJ2_isEmpty d 8 (L) S M Q := mw_goto ⟨dJ2_isEmpty_8, rfl⟩ rfl k
theorem dJ2_isEmpty_11 : decode cJ2_isEmpty 11 = .ok (.iconst 0, 1) := dk_3 (dk_at dksJ2_isEmpty_0 11 rfl rfl)
theorem iJ2_isEmpty_11 {d : Nat} {L S : List MV} {M : MH} {Q : Out → MH → Prop}  (k : MW mJ2_isEmpty d 12 (L) (vi 0 :: S) M Q) : MW mJ2_isEmpty d 11 (L) S M Q := mw_iconst ⟨dJ2_isEmpty_11, rfl⟩ k
theorem dJ2_isEmpty_12 : decode cJ2_isEmpty 12 = .ok (.ireturn, 1) := dk_172 (dk_at dksJ2_isEmpty_0 12 rfl rfl)
theorem iJ2_isEmpty_12 {d : Nat} {L : List MV} {M : MH} {P : Int → MH → Prop} {z : Int} (hz : z = 0 ∨ z = 1) (hq : P z M) : MW mJ2_isEmpty d 12 L [vi z] M (Ri P) := mw_retz ⟨dJ2_isEmpty_12, rfl⟩ rfl hz hq
/-! J2_size -/
theorem dJ2_size_0 : decode cJ2_size 0 = .ok (.aload_n 0, 1) := by decide +kernel
theorem iJ2_size_0 {d : Nat} {r S : List MV} {M : MH} {Q : Out → MH → Prop} {o : Option Nat} (k : MW mJ2_size d 1 (vr o :: r) (vr o :: S) M Q) : MW mJ2_size d 0 (vr o :: r) S M Q := mw_aload_n ⟨dJ2_size_0, rfl⟩ rfl k
theorem dJ2_size_1 : decode cJ2_size 1 = .ok (.getfield 48, 3) := by decide +kernel
theorem iJ2_size_1 {d : Nat} {L S : List MV} {M : MH} {Q : Out → MH → Prop} {a : Nat} (hs : (msh M a).1 = 3) (k : MW mJ2_size d 4 L (vi (miv M a 2) :: S) M Q) : MW mJ2_size d 1 L (vp a :: S) M Q := mw_getI (ci := 3) (k := 2) ⟨dJ2_size_1, rfl⟩ ⟨_, rfl, Nat.le_of_ble_eq_true rfl, Or.inl q151⟩ rfl hs k
theorem dJ2_size_4 : decode cJ2_size 4 = .ok (.ireturn, 1) := by decide +kernel
theorem iJ2_size_4 {d : Nat} {L : List MV} {M : MH} {P : Int → MH → Prop} {z : Int} (hq : P z M) : MW mJ2_size d 4 L [vi z] M (Ri P) := mw_reti ⟨dJ2_size_4, rfl⟩ rfl hq
/-! J2_add -/
def dkwJ2_add_1 : List UInt8 := [172]
abbrev dktJ2_add_1 : List UInt8 := dkwJ2_add_1 ++ []
def dkwJ2_add_0 : List UInt8 := [42, 89, 180, 0, 63, 4, 96, 181, 0, 63, 42, 43, 42, 180, 0, 9, 42, 180, 0, 48, 182, 0, 131, 4]
abbrev dktJ2_add_0 : List UInt8 := dkwJ2_add_0 ++ dktJ2_add_1
theorem dksJ2_add_0 : cJ2_add.data.toList.drop 0 = dktJ2_add_0 := by decide +kernel
theorem dksJ2_add_1 : cJ2_add.data.toList.drop 24 = dktJ2_add_1 := dk_seg dksJ2_add_0 24 rfl rfl
theorem dJ2_add_0 : decode cJ2_add 0 = .ok (.aload_n 0, 1) := dk_42 (dk_at dksJ2_add_0 0 rfl rfl)
theorem iJ2_add_0 {d : Nat} {r S : List MV} {M : MH} {Q : Out → MH → Prop} {o : Option Nat} (k : MW mJ2_add d 1 (vr o :: r) (vr o :: S) M Q) : MW mJ2_add d 0 (vr o :: r) S M Q := mw_aload_n ⟨dJ2_add_0, rfl⟩ rfl k
theorem dJ2_add_1 : decode cJ2_add 1 = .ok (.dup, 1) := dk_89 (dk_at dksJ2_add_0 1 rfl rfl)
theorem iJ2_add_1 {d : Nat} {L S : List MV} {M : MH} {Q : Out → MH → Prop} {v : MV} (k : MW mJ2_add d 2 L (v :: v :: S) M Q) (hv : mcat v = 1 := by rfl) : MW mJ2_add d 1 L (v :: S) M Q := mw_dup ⟨dJ2_add_1, rfl⟩ hv k
theorem dJ2_add_5 : decode cJ2_add 5 = .ok (.iconst 1, 1) := dk_4 (dk_at dksJ2_add_0 5 rfl rfl)
theorem iJ2_add_5 {d : Nat} {L S : List MV} {M : MH} {Q : Out → MH → Prop}  (k : MW mJ2_add d 6 (L) (vi 1 :: S) M Q) : MW mJ2_add d 5 (L) S M Q := mw_iconst ⟨dJ2_add_5, rfl⟩ k
theorem dJ2_add_6 : decode cJ2_add 6 = .ok (.iadd, 1) := dk_96 (dk_at dksJ2_add_0 6 rfl rfl)
theorem iJ2_add_6 {d : Nat} {L S : List MV} {M : MH} {Q : Out → MH → Prop} {a b : Int} (k : MW mJ2_add d 7 (L) (vi (a + b) :: S) M Q) : MW mJ2_add d 6 (L) (vi b :: vi a :: S) M Q := mw_iadd ⟨dJ2_add_6, rfl⟩ k
theorem dJ2_add_7 : decode cJ2_add 7 = .ok (.putfield 63, 3) := dk_181 0 63 (dk_at dksJ2_add_0 7 rfl rfl)
theorem iJ2_add_7 {d : Nat} {L S : List MV} {M : MH} {Q : Out → MH → Prop} {a : Nat} {z : Int} (hs : (msh M a).1 = 3) (k : MW mJ2_add d 10 L S (wI M a 0 z) Q) : MW mJ2_add d 7 L (vi z :: vp a :: S) M Q := mw_putI (ci := 3) (k := 0) ⟨dJ2_add_7, rfl⟩ ⟨_, rfl, Nat.le_of_ble_eq_true rfl, Or.inl ⟨rfl, Or.inr (Or.inl ⟨_, q153, q154⟩)⟩⟩ rfl hs k
theorem dJ2_add_10 : decode cJ2_add 10 = .ok (.aload_n 0, 1) := dk_42 (dk_at dksJ2_add_0 10 rfl rfl)
theorem iJ2_add_10 {d : Nat} {r S : List MV} {M : MH} {Q : Out → MH → Prop} {o : Option Nat} (k : MW mJ2_add d 11 (vr o :: r) (vr o :: S) M Q) : MW mJ2_add d 10 (vr o :: r) S M Q := mw_aload_n ⟨dJ2_add_10, rfl⟩ rfl k
theorem dJ2_add_11 : decode cJ2_add 11 = .ok (.aload_n 1, 1) := dk_43 (dk_at dksJ2_add_0 11 rfl rfl)
theorem iJ2_add_11 {d : Nat} {r S : List MV} {M : MH} {Q : Out → MH → Prop} {w0 : MV} {o : Option Nat} (k : MW mJ2_add d 12 (w0 :: vr o :: r) (vr o :: S) M Q) : MW mJ2_add d 11 (w0 :: vr o :: r) S M Q := mw_aload_n ⟨dJ2_add_11, rfl⟩ rfl k
theorem dJ2_add_12 : decode cJ2_add 12 = .ok (.aload_n 0, 1) := dk_42 (dk_at dksJ2_add_0 12 rfl rfl)
theorem iJ2_add_12 {d : Nat} {r S : List MV} {M : MH} {Q : Out → MH → Prop} {o : Option Nat} (k : MW mJ2_add d 13 (vr o :: r) (vr o :: S) M Q) : MW mJ2_add d 12 (vr o :: r) S M Q := mw_aload_n ⟨dJ2_add_12, rfl⟩ rfl k
theorem dJ2_add_13 : decode cJ2_add 13 = .ok (.getfield 9, 3) := dk_180 0 9 (dk_at dksJ2_add_0 13 rfl rfl)
theorem iJ2_add_13 {d : Nat} {L S : List MV} {M : MH} {Q : Out → MH → Prop} {a : Nat} {o : Option Nat} (hs : (msh M a).1 = 3) (hr : mrv M a 1 = o) (k : MW mJ2_add d 16 L (vr o :: S) M Q) : MW mJ2_add d 13 L (vp a :: S) M Q := mw_getR (ci := 3) (k := 1) ⟨dJ2_add_13, rfl⟩ ⟨_, rfl, Nat.le_of_ble_eq_true rfl, Or.inl q150⟩ rfl hs hr k
theorem dJ2_add_16 : decode cJ2_add 16 = .ok (.aload_n 0, 1) := dk_42 (dk_at dksJ2_add_0 16 rfl rfl)
theorem iJ2_add_16 {d : Nat} {r S : List MV} {M : MH} {Q : Out → MH → Prop} {o : Option Nat} (k : MW mJ2_add d 17 (vr o :: r) (vr o :: S) M Q) : MW mJ2_add d 16 (vr o :: r) S M Q := mw_aload_n ⟨dJ2_add_16, rfl⟩ rfl k
theorem dJ2_add_17 : decode cJ2_add 17 = .ok (.getfield 48, 3) := dk_180 0 48 (dk_at dksJ2_add_0 17 rfl rfl)
theorem iJ2_add_17 {d : Nat} {L S : List MV} {M : MH} {Q : Out → MH → Prop} {a : Nat} (hs : (msh M a).1 = 3) (k : MW mJ2_add d 20 L (vi (miv M a 2) :: S) M Q) : MW mJ2_add d 17 L (vp a :: S) M Q := mw_getI (ci := 3) (k := 2) ⟨dJ2_add_17, rfl⟩ ⟨_, rfl, Nat.le_of_ble_eq_true rfl, Or.inl q151⟩ rfl hs k
theorem dJ2_add_20 : decode cJ2_add 20 = .ok (.invokevirtual 131, 3) := dk_182 0 131 (dk_at dksJ2_add_0 20 rfl rfl)
theorem iJ2_add_20 {d : Nat} {L S : List MV} {M : MH} {Q : Out → MH → Prop} {v1 v2 v3 : MV} {b : Nat} {P : MH → Prop} (hs : (msh M b).1 = 3) (hM : MCv mJ2_add_2 d [vp b, v1, v2, v3] M P) (k : ∀ M', P M' → MW mJ2_add (d + 1) 23 L S M' Q) (h8 : Nat.ble (S.map mcat).sum 8 = true := by rfl) : MW mJ2_add (d + 1) 20 L (v3 :: v2 :: v1 :: vp b :: S) M Q := mw_callv (as := [vp b, v1, v2, v3]) (site_V (Y' := mJ2_add_2) (n := 3) ⟨dJ2_add_20, rfl⟩ (Or.inl q563) q565 qs2 wJ2_add_2 nJ2_add_2 hJ2_add_2 (cls_of (ci := 3) rfl hs) rfl) kJ2_add_2 (Nat.le_of_ble_eq_true h8) hM k
theorem dJ2_add_23 : decode cJ2_add 23 = .ok (.iconst 1, 1) := dk_4 (dk_at dksJ2_add_0 23 rfl rfl)
theorem iJ2_add_23 {d : Nat} {L S : List MV} {M : MH} {Q : Out → MH → Prop}  (k : MW mJ2_add d 24 (L) (vi 1 :: S) M Q) : MW mJ2_add d 23 (L) S M Q := mw_iconst ⟨dJ2_add_23, rfl⟩ k
theorem dJ2_add_24 : decode cJ2_add 24 = .ok (.ireturn, 1) := dk_172 (dk_at dksJ2_add_1 0 rfl rfl)
theorem iJ2_add_24 {d : Nat} {L : List MV} {M : MH} {P : Int → MH → Prop} {z : Int} (hz : z = 0 ∨ z = 1) (hq : P z M) : MW mJ2_add d 24 L [vi z] M (Ri P) := mw_retz ⟨dJ2_add_24, rfl⟩ rfl hz hq
/-! J2_add_2 -/
theorem dJ2_add_2 : decode cJ2_add 2 = .ok (.getfield 63, 3) := dk_180 0 63 (dk_at dksJ2_add_0 2 rfl rfl)
def dkwJ2_add_2_0 : List UInt8 := [29, 44, 190, 160, 0, 8, 42, 182, 0, 129, 77, 44, 29, 43, 83, 42, 29, 4, 96, 181, 0, 48, 177]
abbrev dktJ2_add_2_0 : List UInt8 := dkwJ2_add_2_0 ++ []
theorem dksJ2_add_2_0 : cJ2_add_2.data.toList.drop 0 = dktJ2_add_2_0 := by decide +kernel
theorem dJ2_add_2_0 : decode cJ2_add_2 0 = .ok (.iload_n 3, 1) := dk_29 (dk_at dksJ2_add_2_0 0 rfl rfl)
theorem iJ2_add_2_0 {d : Nat} {r S : List MV} {M : MH} {Q : Out → MH → Prop} {w0 w1 w2 : MV} {z : Int} (k : MW mJ2_add_2 d 1 (w0 :: w1 :: w2 :: vi z :: r) (vi z :: S) M Q) : MW mJ2_add_2 d 0 (w0 :: w1 :: w2 :: vi z :: r) S M Q := mw_iload_n ⟨dJ2_add_2_0, rfl⟩ rfl k
theorem dJ2_add_2_1 : decode cJ2_add_2 1 = .ok (.aload_n 2, 1) := dk_44 (dk_at dksJ2_add_2_0 1 rfl rfl)
theorem iJ2_add_2_1 {d : Nat} {r S : List MV} {M : MH} {Q : Out → MH → Prop} {w0 w1 : MV} {o : Option Nat} (k : MW mJ2_add_2 d 2 (w0 :: w1 :: vr o :: r) (vr o :: S) M Q) : MW mJ2_add_2 d 1 (w0 :: w1 :: vr o :: r) S M Q := mw_aload_n ⟨dJ2_add_2_1, rfl⟩ rfl k
theorem dJ2_add_2_2 : decode cJ2_add_2 2 = .ok (.arraylength, 1) := dk_190 (dk_at dksJ2_add_2_0 2 rfl rfl)
theorem iJ2_add_2_2 {d : Nat} {L S : List MV} {M : MH} {Q : Out → MH → Prop} {a n ak : Nat} (hs : msh M a = (100 + ak, n)) (k : MW mJ2_add_2 d 3 L (vi n :: S) M Q) : MW mJ2_add_2 d 2 L (vp a :: S) M Q := mw_alen ⟨dJ2_add_2_2, rfl⟩ hs k
theorem iJ2_add_2_2E {d : Nat} {L S : List MV} {M : MH} {Q : Out → MH → Prop} (k : MW mJ2_add_2 d 3 L (vi 0 :: S) M Q) : MW mJ2_add_2 d 2 L (vp 0 :: S) M Q := mw_alen0 ⟨dJ2_add_2_2, rfl⟩ k
theorem dJ2_add_2_3 : decode cJ2_add_2 3 = .ok (.if_icmp .ne 8, 3) := dk_160 0 8 (dk_at dksJ2_add_2_0 3 rfl rfl)
theorem iJ2_add_2_3 {d : Nat} {L S : List MV} {M : MH} {Q : Out → MH → Prop} {a b : Int} (ha : inR a) (hb : inR b) (kt : a ≠ b → MW mJ2_add_2 d 11 L S M Q) (kf : a = b → MW mJ2_add_2 d 6 L S M Q) : MW mJ2_add_2 d 3 L (vi b :: vi a :: S) M Q := mw_icmp_ne ⟨dJ2_add_2_3, rfl⟩ rfl ha hb kt kf
theorem dJ2_add_2_6 : decode cJ2_add_2 6 = .ok (.aload_n 0, 1) := dk_42 (dk_at dksJ2_add_2_0 6 rfl rfl)
theorem iJ2_add_2_6 {d : Nat} {r S : List MV} {M : MH} {Q : Out → MH → Prop} {o : Option Nat} (k : MW mJ2_add_2 d 7 (vr o :: r) (vr o :: S) M Q) : MW mJ2_add_2 d 6 (vr o :: r) S M Q := mw_aload_n ⟨dJ2_add_2_6, rfl⟩ rfl k
theorem dJ2_add_2_7 : decode cJ2_add_2 7 = .ok (.invokevirtual 129, 3) := dk_182 0 129 (dk_at dksJ2_add_2_0 7 rfl rfl)
theorem iJ2_add_2_7 {d : Nat} {L S : List MV} {M : MH} {Q : Out → MH → Prop} {b : Nat} {P : Option Nat → MH → Prop} (hs : (msh M b).1 = 3) (hM : MCr mJ2_grow d [vp b] M P) (k : ∀ o M', P o M' → MW mJ2_add_2 (d + 1) 10 L (vr o :: S) M' Q) (h8 : Nat.ble (S.map mcat).sum 8 = true := by rfl) : MW mJ2_add_2 (d + 1) 7 L (vp b :: S) M Q := mw_callr (as := [vp b]) (site_V (Y' := mJ2_grow) (n := 0) ⟨dJ2_add_2_7, rfl⟩ (Or.inl q567) q569 qs3 wJ2_grow nJ2_grow hJ2_grow (cls_of (ci := 3) rfl hs) rfl) kJ2_grow (Nat.le_of_ble_eq_true h8) hM k
theorem dJ2_add_2_10 : decode cJ2_add_2 10 = .ok (.astore_n 2, 1) := dk_77 (dk_at dksJ2_add_2_0 10 rfl rfl)
theorem iJ2_add_2_10 {d : Nat} {r S : List MV} {M : MH} {Q : Out → MH → Prop} {w0 w1 : MV} {o : Option Nat} {v : MV} (k : MW mJ2_add_2 d 11 (w0 :: w1 :: vr o :: r) S M Q) (hok : okSt (w0 :: w1 :: v :: r) 2 = true := by rfl) : MW mJ2_add_2 d 10 (w0 :: w1 :: v :: r) (vr o :: S) M Q := mw_astore_n (i := 2) ⟨dJ2_add_2_10, rfl⟩ rfl (Nat.le_of_ble_eq_true rfl) hok k
theorem dJ2_add_2_11 : decode cJ2_add_2 11 = .ok (.aload_n 2, 1) := dk_44 (dk_at dksJ2_add_2_0 11 rfl rfl)
theorem iJ2_add_2_11 {d : Nat} {r S : List MV} {M : MH} {Q : Out → MH → Prop} {w0 w1 : MV} {o : Option Nat} (k : MW mJ2_add_2 d 12 (w0 :: w1 :: vr o :: r) (vr o :: S) M Q) : MW mJ2_add_2 d 11 (w0 :: w1 :: vr o :: r) S M Q := mw_aload_n ⟨dJ2_add_2_11, rfl⟩ rfl k
theorem dJ2_add_2_12 : decode cJ2_add_2 12 = .ok (.iload_n 3, 1) := dk_29 (dk_at dksJ2_add_2_0 12 rfl rfl)
theorem iJ2_add_2_12 {d : Nat} {r S : List MV} {M : MH} {Q : Out → MH → Prop} {w0 w1 w2 : MV} {z : Int} (k : MW mJ2_add_2 d 13 (w0 :: w1 :: w2 :: vi z :: r) (vi z :: S) M Q) : MW mJ2_add_2 d 12 (w0 :: w1 :: w2 :: vi z :: r) S M Q := mw_iload_n ⟨dJ2_add_2_12, rfl⟩ rfl k
theorem dJ2_add_2_13 : decode cJ2_add_2 13 = .ok (.aload_n 1, 1) := dk_43 (dk_at dksJ2_add_2_0 13 rfl rfl)
theorem iJ2_add_2_13 {d : Nat} {r S : List MV} {M : MH} {Q : Out → MH → Prop} {w0 : MV} {o : Option Nat} (k : MW mJ2_add_2 d 14 (w0 :: vr o :: r) (vr o :: S) M Q) : MW mJ2_add_2 d 13 (w0 :: vr o :: r) S M Q := mw_aload_n ⟨dJ2_add_2_13, rfl⟩ rfl k
theorem dJ2_add_2_14 : decode cJ2_add_2 14 = .ok (.aastore, 1) := dk_83 (dk_at dksJ2_add_2_0 14 rfl rfl)
theorem iJ2_add_2_14 {d : Nat} {L S : List MV} {M : MH} {Q : Out → MH → Prop} {a n q : Nat} {z : Int} {C0 : String} (hs : msh M a = (104, n)) (hn : n ≤ 2147483647) (hi : 0 ≤ z ∧ z < n) (hC : ClsOf M q C0) (hcs : Cond.castable C0 "java/lang/Object" ∈ lw_big) (k : MW mJ2_add_2 d 15 L S (wR M a z.toNat (some q)) Q) : MW mJ2_add_2 d 14 L (vp q :: vi z :: vp a :: S) M Q := mw_aastore (ak := 4) ⟨dJ2_add_2_14, rfl⟩ hs (Or.inl rfl) hn hi hC (Or.inl ⟨rfl, hcs⟩) k
theorem iJ2_add_2_14N {d : Nat} {L S : List MV} {M : MH} {Q : Out → MH → Prop} {a n : Nat} {z : Int} (hs : msh M a = (104, n)) (hn : n ≤ 2147483647) (hi : 0 ≤ z ∧ z < n) (k : MW mJ2_add_2 d 15 L S (wR M a z.toNat none) Q) : MW mJ2_add_2 d 14 L (vr none :: vi z :: vp a :: S) M Q := mw_aastoreN ⟨dJ2_add_2_14, rfl⟩ hs hn hi k
theorem iJ2_add_2_14S {d : Nat} {L S : List MV} {M : MH} {Q : Out → MH → Prop} {a n q : Nat} {z : Int} (hs : msh M a = (106, n)) (hn : n ≤ 2147483647) (hi : 0 ≤ z ∧ z < n) (hq : (msh M q).1 = 8) (k : MW mJ2_add_2 d 15 L S (wR M a z.toNat (some q)) Q) : MW mJ2_add_2 d 14 L (vp q :: vi z :: vp a :: S) M Q := mw_aastore (ak := 6) ⟨dJ2_add_2_14, rfl⟩ hs (Or.inr rfl) hn hi (cls_of (ci := 8) rfl hq) (Or.inr ⟨rfl, rfl, hq⟩) k
theorem dJ2_add_2_15 : decode cJ2_add_2 15 = .ok (.aload_n 0, 1) := dk_42 (dk_at dksJ2_add_2_0 15 rfl rfl)
theorem iJ2_add_2_15 {d : Nat} {r S : List MV} {M : MH} {Q : Out → MH → Prop} {o : Option Nat} (k : MW mJ2_add_2 d 16 (vr o :: r) (vr o :: S) M Q) : MW mJ2_add_2 d 15 (vr o :: r) S M Q := mw_aload_n ⟨dJ2_add_2_15, rfl⟩ rfl k
theorem dJ2_add_2_16 : decode cJ2_add_2 16 = .ok (.iload_n 3, 1) := dk_29 (dk_at dksJ2_add_2_0 16 rfl rfl)
theorem iJ2_add_2_16 {d : Nat} {r S : List MV} {M : MH} {Q : Out → MH → Prop} {w0 w1 w2 : MV} {z : Int} (k : MW mJ2_add_2 d 17 (w0 :: w1 :: w2 :: vi z :: r) (vi z :: S) M Q) : MW mJ2_add_2 d 16 (w0 :: w1 :: w2 :: vi z :: r) S M Q := mw_iload_n ⟨dJ2_add_2_16, rfl⟩ rfl k
theorem dJ2_add_2_17 : decode cJ2_add_2 17 = .ok (.iconst 1, 1) := dk_4 (dk_at dksJ2_add_2_0 17 rfl rfl)
theorem iJ2_add_2_17 {d : Nat} {L S : List MV} {M : MH} {Q : Out → MH → Prop}  (k : MW mJ2_add_2 d 18 (L) (vi 1 :: S) M Q) : MW mJ2_add_2 d 17 (L) S M Q := mw_iconst ⟨dJ2_add_2_17, rfl⟩ k
theorem dJ2_add_2_18 : decode cJ2_add_2 18 = .ok (.iadd, 1) := dk_96 (dk_at dksJ2_add_2_0 18 rfl rfl)
theorem iJ2_add_2_18 {d : Nat} {L S : List MV} {M : MH} {Q : Out → MH → Prop} {a b : Int} (k : MW mJ2_add_2 d 19 (L) (vi (a + b) :: S) M Q) : MW mJ2_add_2 d 18 (L) (vi b :: vi a :: S) M Q := mw_iadd ⟨dJ2_add_2_18, rfl⟩ k
theorem dJ2_add_2_19 : decode cJ2_add_2 19 = .ok (.putfield 48, 3) := dk_181 0 48 (dk_at dksJ2_add_2_0 19 rfl rfl)
theorem iJ2_add_2_19 {d : Nat} {L S : List MV} {M : MH} {Q : Out → MH → Prop} {a : Nat} {z : Int} (hs : (msh M a).1 = 3) (k : MW mJ2_add_2 d 22 L S (wI M a 2 z) Q) : MW mJ2_add_2 d 19 L (vi z :: vp a :: S) M Q := mw_putI (ci := 3) (k := 2) ⟨dJ2_add_2_19, rfl⟩ ⟨_, rfl, Nat.le_of_ble_eq_true rfl, Or.inl ⟨rfl, Or.inl q151⟩⟩ rfl hs k
theorem dJ2_add_2_22 : decode cJ2_add_2 22 = .ok (.return_, 1) := dk_177 (dk_at dksJ2_add_2_0 22 rfl rfl)
theorem iJ2_add_2_22 {d : Nat} {L : List MV} {M : MH} {P : MH → Prop} (hq : P M) : MW mJ2_add_2 d 22 L [] M (Rv P) := mw_retv ⟨dJ2_add_2_22, rfl⟩ rfl hq
/-! J2_grow -/
def dkwJ2_grow_0 : List UInt8 := [42, 42, 180, 0, 48, 4, 96, 182, 0, 69, 176]
abbrev dktJ2_grow_0 : List UInt8 := dkwJ2_grow_0 ++ []
theorem dksJ2_grow_0 : cJ2_grow.data.toList.drop 0 = dktJ2_grow_0 := by decide +kernel
theorem dJ2_grow_0 : decode cJ2_grow 0 = .ok (.aload_n 0, 1) := dk_42 (dk_at dksJ2_grow_0 0 rfl rfl)
theorem iJ2_grow_0 {d : Nat} {r S : List MV} {M : MH} {Q : Out → MH → Prop} {o : Option Nat} (k : MW mJ2_grow d 1 (vr o :: r) (vr o :: S) M Q) : MW mJ2_grow d 0 (vr o :: r) S M Q := mw_aload_n ⟨dJ2_grow_0, rfl⟩ rfl k
theorem dJ2_grow_1 : decode cJ2_grow 1 = .ok (.aload_n 0, 1) := dk_42 (dk_at dksJ2_grow_0 1 rfl rfl)
theorem iJ2_grow_1 {d : Nat} {r S : List MV} {M : MH} {Q : Out → MH → Prop} {o : Option Nat} (k : MW mJ2_grow d 2 (vr o :: r) (vr o :: S) M Q) : MW mJ2_grow d 1 (vr o :: r) S M Q := mw_aload_n ⟨dJ2_grow_1, rfl⟩ rfl k
theorem dJ2_grow_5 : decode cJ2_grow 5 = .ok (.iconst 1, 1) := dk_4 (dk_at dksJ2_grow_0 5 rfl rfl)
theorem iJ2_grow_5 {d : Nat} {L S : List MV} {M : MH} {Q : Out → MH → Prop}  (k : MW mJ2_grow d 6 (L) (vi 1 :: S) M Q) : MW mJ2_grow d 5 (L) S M Q := mw_iconst ⟨dJ2_grow_5, rfl⟩ k
theorem dJ2_grow_6 : decode cJ2_grow 6 = .ok (.iadd, 1) := dk_96 (dk_at dksJ2_grow_0 6 rfl rfl)
theorem iJ2_grow_6 {d : Nat} {L S : List MV} {M : MH} {Q : Out → MH → Prop} {a b : Int} (k : MW mJ2_grow d 7 (L) (vi (a + b) :: S) M Q) : MW mJ2_grow d 6 (L) (vi b :: vi a :: S) M Q := mw_iadd ⟨dJ2_grow_6, rfl⟩ k
theorem dJ2_grow_7 : decode cJ2_grow 7 = .ok (.invokevirtual 69, 3) := dk_182 0 69 (dk_at dksJ2_grow_0 7 rfl rfl)
theorem iJ2_grow_7 {d : Nat} {L S : List MV} {M : MH} {Q : Out → MH → Prop} {v1 : MV} {b : Nat} {P : Option Nat → MH → Prop} (hs : (msh M b).1 = 3) (hM : MCr mJ2_grow_2 d [vp b, v1] M P) (k : ∀ o M', P o M' → MW mJ2_grow (d + 1) 10 L (vr o :: S) M' Q) (h8 : Nat.ble (S.map mcat).sum 8 = true := by rfl) : MW mJ2_grow (d + 1) 7 L (v1 :: vp b :: S) M Q := mw_callr (as := [vp b, v1]) (site_V (Y' := mJ2_grow_2) (n := 1) ⟨dJ2_grow_7, rfl⟩ (Or.inl q571) q573 qs4 wJ2_grow_2 nJ2_grow_2 hJ2_grow_2 (cls_of (ci := 3) rfl hs) rfl) kJ2_grow_2 (Nat.le_of_ble_eq_true h8) hM k
theorem dJ2_grow_10 : decode cJ2_grow 10 = .ok (.areturn, 1) := dk_176 (dk_at dksJ2_grow_0 10 rfl rfl)
theorem iJ2_grow_10 {d : Nat} {L : List MV} {M : MH} {P : Option Nat → MH → Prop} {o : Option Nat} (hq : P o M) : MW mJ2_grow d 10 L [vr o] M (Rr P) := mw_retr ⟨dJ2_grow_10, rfl⟩ rfl (Or.inr ⟨_, rfl⟩) hq
/-! J2_grow_2 -/
theorem dJ2_grow_2 : decode cJ2_grow 2 = .ok (.getfield 48, 3) := dk_180 0 48 (dk_at dksJ2_grow_0 2 rfl rfl)
def dkwJ2_grow_2_2 : List UInt8 := [27, 184, 0, 79, 189, 0, 7, 90, 181, 0, 9, 176]
abbrev dktJ2_grow_2_2 : List UInt8 := dkwJ2_grow_2_2 ++ []
def dkwJ2_grow_2_1 : List UInt8 := [28, 4, 122, 184, 0, 73, 62, 42, 42, 180, 0, 9, 29, 184, 0, 66, 90, 181, 0, 9, 176, 42, 16, 10]
abbrev dktJ2_grow_2_1 : List UInt8 := dkwJ2_grow_2_1 ++ dktJ2_grow_2_2
def dkwJ2_grow_2_0 : List UInt8 := [42, 180, 0, 9, 190, 61, 28, 157, 0, 13, 42, 180, 0, 9, 178, 0, 39, 165, 0, 28, 28, 27, 28, 100]
abbrev dktJ2_grow_2_0 : List UInt8 := dkwJ2_grow_2_0 ++ dktJ2_grow_2_1
theorem dksJ2_grow_2_0 : cJ2_grow_2.data.toList.drop 0 = dktJ2_grow_2_0 := by decide +kernel
theorem dksJ2_grow_2_1 : cJ2_grow_2.data.toList.drop 24 = dktJ2_grow_2_1 := dk_seg dksJ2_grow_2_0 24 rfl rfl
theorem dksJ2_grow_2_2 : cJ2_grow_2.data.toList.drop 48 = dktJ2_grow_2_2 := dk_seg dksJ2_grow_2_1 24 rfl rfl
theorem dJ2_grow_2_0 : decode cJ2_grow_2 0 = .ok (.aload_n 0, 1) := dk_42 (dk_at dksJ2_grow_2_0 0 rfl rfl)
theorem iJ2_grow_2_0 {d : Nat} {r S : List MV} {M : MH} {Q : Out → MH → Prop} {o : Option Nat} (k : MW mJ2_grow_2 d 1 (vr o :: r) (vr o :: S) M Q) : MW mJ2_grow_2 d 0 (vr o :: r) S M Q := mw_aload_n ⟨dJ2_grow_2_0, rfl⟩ rfl k
theorem dJ2_grow_2_1 : decode cJ2_grow_2 1 = .ok (.getfield 9, 3) := dk_180 0 9 (dk_at dksJ2_grow_2_0 1 rfl rfl)
theorem iJ2_grow_2_1 {d : Nat} {L S : List MV} {M : MH} {Q : Out → MH → Prop} {a : Nat} {o : Option Nat} (hs : (msh M a).1 = 3) (hr : mrv M a 1 = o) (k : MW mJ2_grow_2 d 4 L (vr o :: S) M Q) : MW mJ2_grow_2 d 1 L (vp a :: S) M Q := mw_getR (ci := 3) (k := 1) ⟨dJ2_grow_2_1, rfl⟩ ⟨_, rfl, Nat.le_of_ble_eq_true rfl, Or.inl q150⟩ rfl hs hr k
theorem dJ2_grow_2_4 : decode cJ2_grow_2 4 = .ok (.arraylength, 1) := dk_190 (dk_at dksJ2_grow_2_0 4 rfl rfl)
theorem iJ2_grow_2_4 {d : Nat} {L S : List MV} {M : MH} {Q : Out → MH → Prop} {a n ak : Nat} (hs : msh M a = (100 + ak, n)) (k : MW mJ2_grow_2 d 5 L (vi n :: S) M Q) : MW mJ2_grow_2 d 4 L (vp a :: S) M Q := mw_alen ⟨dJ2_grow_2_4, rfl⟩ hs k
theorem iJ2_grow_2_4E {d : Nat} {L S : List MV} {M : MH} {Q : Out → MH → Prop} (k : MW mJ2_grow_2 d 5 L (vi 0 :: S) M Q) : MW mJ2_grow_2 d 4 L (vp 0 :: S) M Q := mw_alen0 ⟨dJ2_grow_2_4, rfl⟩ k
theorem dJ2_grow_2_5 : decode cJ2_grow_2 5 = .ok (.istore_n 2, 1) := dk_61 (dk_at dksJ2_grow_2_0 5 rfl rfl)
theorem iJ2_grow_2_5 {d : Nat} {r S : List MV} {M : MH} {Q : Out → MH → Prop} {w0 w1 : MV} {z : Int} {v : MV} (k : MW mJ2_grow_2 d 6 (w0 :: w1 :: vi z :: r) S M Q) (hok : okSt (w0 :: w1 :: v :: r) 2 = true := by rfl) : MW mJ2_grow_2 d 5 (w0 :: w1 :: v :: r) (vi z :: S) M Q := mw_istore_n (i := 2) ⟨dJ2_grow_2_5, rfl⟩ rfl (Nat.le_of_ble_eq_true rfl) hok k
theorem dJ2_grow_2_6 : decode cJ2_grow_2 6 = .ok (.iload_n 2, 1) := dk_28 (dk_at dksJ2_grow_2_0 6 rfl rfl)
theorem iJ2_grow_2_6 {d : Nat} {r S : List MV} {M : MH} {Q : Out → MH → Prop} {w0 w1 : MV} {z : Int} (k : MW mJ2_grow_2 d 7 (w0 :: w1 :: vi z :: r) (vi z :: S) M Q) : MW mJ2_grow_2 d 6 (w0 :: w1 :: vi z :: r) S M Q := mw_iload_n ⟨dJ2_grow_2_6, rfl⟩ rfl k
theorem dJ2_grow_2_7 : decode cJ2_grow_2 7 = .ok (.ifCond .gt 13, 3) := dk_157 0 13 (dk_at dksJ2_grow_2_0 7 rfl rfl)
theorem iJ2_grow_2_7 {d : Nat} {L S : List MV} {M : MH} {Q : Out → MH → Prop} {a : Int} (ha : inR a) (kt : 0 < a → MW mJ2_grow_2 d 20 L S M Q) (kf : ¬ 0 < a → MW mJ2_grow_2 d 10 L S M Q) : MW mJ2_grow_2 d 7 L (vi a :: S) M Q := mw_if_gt ⟨dJ2_grow_2_7, rfl⟩ rfl ha kt kf
theorem dJ2_grow_2_10 : decode cJ2_grow_2 10 = .ok (.aload_n 0, 1) := dk_42 (dk_at dksJ2_grow_2_0 10 rfl rfl)
theorem iJ2_grow_2_10 {d : Nat} {r S : List MV} {M : MH} {Q : Out → MH → Prop} {o : Option Nat} (k : MW mJ2_grow_2 d 11 (vr o :: r) (vr o :: S) M Q) : MW mJ2_grow_2 d 10 (vr o :: r) S M Q := mw_aload_n ⟨dJ2_grow_2_10, rfl⟩ rfl k
theorem dJ2_grow_2_11 : decode cJ2_grow_2 11 = .ok (.getfield 9, 3) := dk_180 0 9 (dk_at dksJ2_grow_2_0 11 rfl rfl)
theorem iJ2_grow_2_11 {d : Nat} {L S : List MV} {M : MH} {Q : Out → MH → Prop} {a : Nat} {o : Option Nat} (hs : (msh M a).1 = 3) (hr : mrv M a 1 = o) (k : MW mJ2_grow_2 d 14 L (vr o :: S) M Q) : MW mJ2_grow_2 d 11 L (vp a :: S) M Q := mw_getR (ci := 3) (k := 1) ⟨dJ2_grow_2_11, rfl⟩ ⟨_, rfl, Nat.le_of_ble_eq_true rfl, Or.inl q150⟩ rfl hs hr k
theorem dJ2_grow_2_14 : decode cJ2_grow_2 14 = .ok (.getstatic 39, 3) := dk_178 0 39 (dk_at dksJ2_grow_2_0 14 rfl rfl)
theorem iJ2_grow_2_14 {d : Nat} {L S : List MV} {M : MH} {Q : Out → MH → Prop}  (k : MW mJ2_grow_2 d 17 (L) (vp 0 :: S) M Q) : MW mJ2_grow_2 d 14 (L) S M Q := mw_gets0 ⟨dJ2_grow_2_14, rfl⟩ q148 k
theorem dJ2_grow_2_17 : decode cJ2_grow_2 17 = .ok (.if_acmp .eq 28, 3) := dk_165 0 28 (dk_at dksJ2_grow_2_0 17 rfl rfl)
theorem iJ2_grow_2_17 {d : Nat} {L S : List MV} {M : MH} {Q : Out → MH → Prop} {a b : Nat} (ha : a ≠ 1) (hb : b ≠ 1) (kt : a = b → MW mJ2_grow_2 d 45 L S M Q) (kf : a ≠ b → MW mJ2_grow_2 d 20 L S M Q) : MW mJ2_grow_2 d 17 L (vp b :: vp a :: S) M Q := mw_acmp_eq ⟨dJ2_grow_2_17, rfl⟩ rfl ha hb kt kf
theorem dJ2_grow_2_20 : decode cJ2_grow_2 20 = .ok (.iload_n 2, 1) := dk_28 (dk_at dksJ2_grow_2_0 20 rfl rfl)
theorem iJ2_grow_2_20 {d : Nat} {r S : List MV} {M : MH} {Q : Out → MH → Prop} {w0 w1 : MV} {z : Int} (k : MW mJ2_grow_2 d 21 (w0 :: w1 :: vi z :: r) (vi z :: S) M Q) : MW mJ2_grow_2 d 20 (w0 :: w1 :: vi z :: r) S M Q := mw_iload_n ⟨dJ2_grow_2_20, rfl⟩ rfl k
theorem dJ2_grow_2_21 : decode cJ2_grow_2 21 = .ok (.iload_n 1, 1) := dk_27 (dk_at dksJ2_grow_2_0 21 rfl rfl)
theorem iJ2_grow_2_21 {d : Nat} {r S : List MV} {M : MH} {Q : Out → MH → Prop} {w0 : MV} {z : Int} (k : MW mJ2_grow_2 d 22 (w0 :: vi z :: r) (vi z :: S) M Q) : MW mJ2_grow_2 d 21 (w0 :: vi z :: r) S M Q := mw_iload_n ⟨dJ2_grow_2_21, rfl⟩ rfl k
theorem dJ2_grow_2_22 : decode cJ2_grow_2 22 = .ok (.iload_n 2, 1) := dk_28 (dk_at dksJ2_grow_2_0 22 rfl rfl)
theorem iJ2_grow_2_22 {d : Nat} {r S : List MV} {M : MH} {Q : Out → MH → Prop} {w0 w1 : MV} {z : Int} (k : MW mJ2_grow_2 d 23 (w0 :: w1 :: vi z :: r) (vi z :: S) M Q) : MW mJ2_grow_2 d 22 (w0 :: w1 :: vi z :: r) S M Q := mw_iload_n ⟨dJ2_grow_2_22, rfl⟩ rfl k
theorem dJ2_grow_2_23 : decode cJ2_grow_2 23 = .ok (.isub, 1) := dk_100 (dk_at dksJ2_grow_2_0 23 rfl rfl)
theorem iJ2_grow_2_23 {d : Nat} {L S : List MV} {M : MH} {Q : Out → MH → Prop} {a b : Int} (k : MW mJ2_grow_2 d 24 (L) (vi (a - b) :: S) M Q) : MW mJ2_grow_2 d 23 (L) (vi b :: vi a :: S) M Q := mw_isub ⟨dJ2_grow_2_23, rfl⟩ k
theorem dJ2_grow_2_24 : decode cJ2_grow_2 24 = .ok (.iload_n 2, 1) := dk_28 (dk_at dksJ2_grow_2_1 0 rfl rfl)
theorem iJ2_grow_2_24 {d : Nat} {r S : List MV} {M : MH} {Q : Out → MH → Prop} {w0 w1 : MV} {z : Int} (k : MW mJ2_grow_2 d 25 (w0 :: w1 :: vi z :: r) (vi z :: S) M Q) : MW mJ2_grow_2 d 24 (w0 :: w1 :: vi z :: r) S M Q := mw_iload_n ⟨dJ2_grow_2_24, rfl⟩ rfl k
theorem dJ2_grow_2_25 : decode cJ2_grow_2 25 = .ok (.iconst 1, 1) := dk_4 (dk_at dksJ2_grow_2_1 1 rfl rfl)
theorem iJ2_grow_2_25 {d : Nat} {L S : List MV} {M : MH} {Q : Out → MH → Prop}  (k : MW mJ2_grow_2 d 26 (L) (vi 1 :: S) M Q) : MW mJ2_grow_2 d 25 (L) S M Q := mw_iconst ⟨dJ2_grow_2_25, rfl⟩ k
theorem dJ2_grow_2_26 : decode cJ2_grow_2 26 = .ok (.ishr, 1) := dk_122 (dk_at dksJ2_grow_2_1 2 rfl rfl)
theorem iJ2_grow_2_26 {d : Nat} {L S : List MV} {M : MH} {Q : Out → MH → Prop} {a b : Int} (k : MW mJ2_grow_2 d 27 (L) (vi (bshr a b) :: S) M Q) : MW mJ2_grow_2 d 26 (L) (vi b :: vi a :: S) M Q := mw_ishr ⟨dJ2_grow_2_26, rfl⟩ k
theorem dJ2_grow_2_27 : decode cJ2_grow_2 27 = .ok (.invokestatic 73, 3) := dk_184 0 73 (dk_at dksJ2_grow_2_1 3 rfl rfl)
theorem iJ2_grow_2_27 {d : Nat} {L S : List MV} {M : MH} {Q : Out → MH → Prop} {v1 v2 v3 : MV} {P : Int → MH → Prop} (hM : MCi mJ5_newLength d [v1, v2, v3] M P) (k : ∀ z M', P z M' → MW mJ2_grow_2 (d + 1) 30 L (vi z :: S) M' Q) (h8 : Nat.ble (S.map mcat).sum 8 = true := by rfl) : MW mJ2_grow_2 (d + 1) 27 L (v3 :: v2 :: v1 :: S) M Q := mw_calli (as := [v1, v2, v3]) (site_S (Y' := mJ5_newLength) (n := 3) ⟨dJ2_grow_2_27, rfl⟩ (Or.inl q575) q576 q106 wJ5_newLength nJ5_newLength hJ5_newLength rfl) kJ5_newLength (Nat.le_of_ble_eq_true h8) hM k
theorem dJ2_grow_2_30 : decode cJ2_grow_2 30 = .ok (.istore_n 3, 1) := dk_62 (dk_at dksJ2_grow_2_1 6 rfl rfl)
theorem iJ2_grow_2_30 {d : Nat} {r S : List MV} {M : MH} {Q : Out → MH → Prop} {w0 w1 w2 : MV} {z : Int} {v : MV} (k : MW mJ2_grow_2 d 31 (w0 :: w1 :: w2 :: vi z :: r) S M Q) (hok : okSt (w0 :: w1 :: w2 :: v :: r) 3 = true := by rfl) : MW mJ2_grow_2 d 30 (w0 :: w1 :: w2 :: v :: r) (vi z :: S) M Q := mw_istore_n (i := 3) ⟨dJ2_grow_2_30, rfl⟩ rfl (Nat.le_of_ble_eq_true rfl) hok k
theorem dJ2_grow_2_31 : decode cJ2_grow_2 31 = .ok (.aload_n 0, 1) := dk_42 (dk_at dksJ2_grow_2_1 7 rfl rfl)
theorem iJ2_grow_2_31 {d : Nat} {r S : List MV} {M : MH} {Q : Out → MH → Prop} {o : Option Nat} (k : MW mJ2_grow_2 d 32 (vr o :: r) (vr o :: S) M Q) : MW mJ2_grow_2 d 31 (vr o :: r) S M Q := mw_aload_n ⟨dJ2_grow_2_31, rfl⟩ rfl k
theorem dJ2_grow_2_32 : decode cJ2_grow_2 32 = .ok (.aload_n 0, 1) := dk_42 (dk_at dksJ2_grow_2_1 8 rfl rfl)
theorem iJ2_grow_2_32 {d : Nat} {r S : List MV} {M : MH} {Q : Out → MH → Prop} {o : Option Nat} (k : MW mJ2_grow_2 d 33 (vr o :: r) (vr o :: S) M Q) : MW mJ2_grow_2 d 32 (vr o :: r) S M Q := mw_aload_n ⟨dJ2_grow_2_32, rfl⟩ rfl k
theorem dJ2_grow_2_33 : decode cJ2_grow_2 33 = .ok (.getfield 9, 3) := dk_180 0 9 (dk_at dksJ2_grow_2_1 9 rfl rfl)
theorem iJ2_grow_2_33 {d : Nat} {L S : List MV} {M : MH} {Q : Out → MH → Prop} {a : Nat} {o : Option Nat} (hs : (msh M a).1 = 3) (hr : mrv M a 1 = o) (k : MW mJ2_grow_2 d 36 L (vr o :: S) M Q) : MW mJ2_grow_2 d 33 L (vp a :: S) M Q := mw_getR (ci := 3) (k := 1) ⟨dJ2_grow_2_33, rfl⟩ ⟨_, rfl, Nat.le_of_ble_eq_true rfl, Or.inl q150⟩ rfl hs hr k
theorem dJ2_grow_2_36 : decode cJ2_grow_2 36 = .ok (.iload_n 3, 1) := dk_29 (dk_at dksJ2_grow_2_1 12 rfl rfl)
theorem iJ2_grow_2_36 {d : Nat} {r S : List MV} {M : MH} {Q : Out → MH → Prop} {w0 w1 w2 : MV} {z : Int} (k : MW mJ2_grow_2 d 37 (w0 :: w1 :: w2 :: vi z :: r) (vi z :: S) M Q) : MW mJ2_grow_2 d 36 (w0 :: w1 :: w2 :: vi z :: r) S M Q := mw_iload_n ⟨dJ2_grow_2_36, rfl⟩ rfl k
theorem dJ2_grow_2_37 : decode cJ2_grow_2 37 = .ok (.invokestatic 66, 3) := dk_184 0 66 (dk_at dksJ2_grow_2_1 13 rfl rfl)
theorem iJ2_grow_2_37 {d : Nat} {L S : List MV} {M : MH} {Q : Out → MH → Prop} {v1 v2 : MV} {P : Option Nat → MH → Prop} (hM : MCr mJ7_copyOf d [v1, v2] M P) (k : ∀ o M', P o M' → MW mJ2_grow_2 (d + 1) 40 L (vr o :: S) M' Q) (h8 : Nat.ble (S.map mcat).sum 8 = true := by rfl) : MW mJ2_grow_2 (d + 1) 37 L (v2 :: v1 :: S) M Q := mw_callr (as := [v1, v2]) (site_S (Y' := mJ7_copyOf) (n := 2) ⟨dJ2_grow_2_37, rfl⟩ (Or.inl q585) q586 q108 wJ7_copyOf nJ7_copyOf hJ7_copyOf rfl) kJ7_copyOf (Nat.le_of_ble_eq_true h8) hM k
theorem dJ2_grow_2_40 : decode cJ2_grow_2 40 = .ok (.dup_x1, 1) := dk_90 (dk_at dksJ2_grow_2_1 16 rfl rfl)
theorem iJ2_grow_2_40 {d : Nat} {L S : List MV} {M : MH} {Q : Out → MH → Prop} {v w : MV} (k : MW mJ2_grow_2 d 41 L (v :: w :: v :: S) M Q) (hv : mcat v = 1 := by rfl) (hw : mcat w = 1 := by rfl) : MW mJ2_grow_2 d 40 L (v :: w :: S) M Q := mw_dup_x1 ⟨dJ2_grow_2_40, rfl⟩ hv hw k
theorem dJ2_grow_2_41 : decode cJ2_grow_2 41 = .ok (.putfield 9, 3) := dk_181 0 9 (dk_at dksJ2_grow_2_1 17 rfl rfl)
theorem iJ2_grow_2_41 {d : Nat} {L S : List MV} {M : MH} {Q : Out → MH → Prop} {a : Nat} {o : Option Nat} (hs : (msh M a).1 = 3) (k : MW mJ2_grow_2 d 44 L S (wR M a 1 o) Q) : MW mJ2_grow_2 d 41 L (vr o :: vp a :: S) M Q := mw_putR (ci := 3) (k := 1) ⟨dJ2_grow_2_41, rfl⟩ ⟨_, rfl, Nat.le_of_ble_eq_true rfl, Or.inl ⟨rfl, Or.inl q150⟩⟩ (Or.inr ⟨_, rfl⟩) hs k
theorem dJ2_grow_2_44 : decode cJ2_grow_2 44 = .ok (.areturn, 1) := dk_176 (dk_at dksJ2_grow_2_1 20 rfl rfl)
theorem iJ2_grow_2_44 {d : Nat} {L : List MV} {M : MH} {P : Option Nat → MH → Prop} {o : Option Nat} (hq : P o M) : MW mJ2_grow_2 d 44 L [vr o] M (Rr P) := mw_retr ⟨dJ2_grow_2_44, rfl⟩ rfl (Or.inr ⟨_, rfl⟩) hq
theorem dJ2_grow_2_45 : decode cJ2_grow_2 45 = .ok (.aload_n 0, 1) := dk_42 (dk_at dksJ2_grow_2_1 21 rfl rfl)
theorem iJ2_grow_2_45 {d : Nat} {r S : List MV} {M : MH} {Q : Out → MH → Prop} {o : Option Nat} (k : MW mJ2_grow_2 d 46 (vr o :: r) (vr o :: S) M Q) : MW mJ2_grow_2 d 45 (vr o :: r) S M Q := mw_aload_n ⟨dJ2_grow_2_45, rfl⟩ rfl k
theorem dJ2_grow_2_46 : decode cJ2_grow_2 46 = .ok (.bipush 10, 2) := dk_16 10 (dk_at dksJ2_grow_2_1 22 rfl rfl)
theorem iJ2_grow_2_46 {d : Nat} {L S : List MV} {M : MH} {Q : Out → MH → Prop}  (k : MW mJ2_grow_2 d 48 (L) (vi 10 :: S) M Q) : MW mJ2_grow_2 d 46 (L) S M Q := mw_bipush ⟨dJ2_grow_2_46, rfl⟩ (by decide) k
theorem dJ2_grow_2_48 : decode cJ2_grow_2 48 = .ok (.iload_n 1, 1) := dk_27 (dk_at dksJ2_grow_2_2 0 rfl rfl)
theorem iJ2_grow_2_48 {d : Nat} {r S : List MV} {M : MH} {Q : Out → MH → Prop} {w0 : MV} {z : Int} (k : MW mJ2_grow_2 d 49 (w0 :: vi z :: r) (vi z :: S) M Q) : MW mJ2_grow_2 d 48 (w0 :: vi z :: r) S M Q := mw_iload_n ⟨dJ2_grow_2_48, rfl⟩ rfl k
theorem dJ2_grow_2_49 : decode cJ2_grow_2 49 = .ok (.invokestatic 79, 3) := dk_184 0 79 (dk_at dksJ2_grow_2_2 1 rfl rfl)
theorem iJ2_grow_2_49 {d : Nat} {L S : List MV} {M : MH} {Q : Out → MH → Prop} {v1 v2 : MV} {P : Int → MH → Prop} (hM : MCi mJ6_max d [v1, v2] M P) (k : ∀ z M', P z M' → MW mJ2_grow_2 (d + 1) 52 L (vi z :: S) M' Q) (h8 : Nat.ble (S.map mcat).sum 8 = true := by rfl) : MW mJ2_grow_2 (d + 1) 49 L (v2 :: v1 :: S) M Q := mw_calli (as := [v1, v2]) (site_S (Y' := mJ6_max) (n := 2) ⟨dJ2_grow_2_49, rfl⟩ (Or.inl q618) q579 q107 wJ6_max nJ6_max hJ6_max rfl) kJ6_max (Nat.le_of_ble_eq_true h8) hM k
theorem dJ2_grow_2_52 : decode cJ2_grow_2 52 = .ok (.anewarray 7, 3) := dk_189 0 7 (dk_at dksJ2_grow_2_2 4 rfl rfl)
theorem iJ2_grow_2_52 {d : Nat} {L S : List MV} {M : MH} {Q : Out → MH → Prop} {n : Nat} {z : Int} (hi : z = (n : Int)) (hn : n ≤ 100000) (hcap : mhn M + 1 ≤ mNC) (hcas : mhs M + n ≤ mNS) (k : MW mJ2_grow_2 d 55 L (vp (mhn M) :: S) (wN M 104 n) Q) : MW mJ2_grow_2 d 52 L (vi z :: S) M Q := mw_anew (ak := 4) ⟨dJ2_grow_2_52, rfl⟩ (Or.inl ⟨rfl, rfl⟩) q619 hi hn hcap hcas k
theorem dJ2_grow_2_55 : decode cJ2_grow_2 55 = .ok (.dup_x1, 1) := dk_90 (dk_at dksJ2_grow_2_2 7 rfl rfl)
theorem iJ2_grow_2_55 {d : Nat} {L S : List MV} {M : MH} {Q : Out → MH → Prop} {v w : MV} (k : MW mJ2_grow_2 d 56 L (v :: w :: v :: S) M Q) (hv : mcat v = 1 := by rfl) (hw : mcat w = 1 := by rfl) : MW mJ2_grow_2 d 55 L (v :: w :: S) M Q := mw_dup_x1 ⟨dJ2_grow_2_55, rfl⟩ hv hw k
theorem dJ2_grow_2_56 : decode cJ2_grow_2 56 = .ok (.putfield 9, 3) := dk_181 0 9 (dk_at dksJ2_grow_2_2 8 rfl rfl)
theorem iJ2_grow_2_56 {d : Nat} {L S : List MV} {M : MH} {Q : Out → MH → Prop} {a : Nat} {o : Option Nat} (hs : (msh M a).1 = 3) (k : MW mJ2_grow_2 d 59 L S (wR M a 1 o) Q) : MW mJ2_grow_2 d 56 L (vr o :: vp a :: S) M Q := mw_putR (ci := 3) (k := 1) ⟨dJ2_grow_2_56, rfl⟩ ⟨_, rfl, Nat.le_of_ble_eq_true rfl, Or.inl ⟨rfl, Or.inl q150⟩⟩ (Or.inr ⟨_, rfl⟩) hs k
theorem dJ2_grow_2_59 : decode cJ2_grow_2 59 = .ok (.areturn, 1) := dk_176 (dk_at dksJ2_grow_2_2 11 rfl rfl)
theorem iJ2_grow_2_59 {d : Nat} {L : List MV} {M : MH} {P : Option Nat → MH → Prop} {o : Option Nat} (hq : P o M) : MW mJ2_grow_2 d 59 L [vr o] M (Rr P) := mw_retr ⟨dJ2_grow_2_59, rfl⟩ rfl (Or.inr ⟨_, rfl⟩) hq
/-! J2_get -/
def dkwJ2_get_0 : List UInt8 := [27, 42, 180, 0, 48, 184, 0, 118, 87, 42, 27, 182, 0, 123, 176]
abbrev dktJ2_get_0 : List UInt8 := dkwJ2_get_0 ++ []
theorem dksJ2_get_0 : cJ2_get.data.toList.drop 0 = dktJ2_get_0 := by decide +kernel
theorem dJ2_get_0 : decode cJ2_get 0 = .ok (.iload_n 1, 1) := dk_27 (dk_at dksJ2_get_0 0 rfl rfl)
theorem iJ2_get_0 {d : Nat} {r S : List MV} {M : MH} {Q : Out → MH → Prop} {w0 : MV} {z : Int} (k : MW mJ2_get d 1 (w0 :: vi z :: r) (vi z :: S) M Q) : MW mJ2_get d 0 (w0 :: vi z :: r) S M Q := mw_iload_n ⟨dJ2_get_0, rfl⟩ rfl k
theorem dJ2_get_1 : decode cJ2_get 1 = .ok (.aload_n 0, 1) := dk_42 (dk_at dksJ2_get_0 1 rfl rfl)
theorem iJ2_get_1 {d : Nat} {r S : List MV} {M : MH} {Q : Out → MH → Prop} {o : Option Nat} (k : MW mJ2_get d 2 (vr o :: r) (vr o :: S) M Q) : MW mJ2_get d 1 (vr o :: r) S M Q := mw_aload_n ⟨dJ2_get_1, rfl⟩ rfl k
theorem dJ2_get_2 : decode cJ2_get 2 = .ok (.getfield 48, 3) := dk_180 0 48 (dk_at dksJ2_get_0 2 rfl rfl)
theorem iJ2_get_2 {d : Nat} {L S : List MV} {M : MH} {Q : Out → MH → Prop} {a : Nat} (hs : (msh M a).1 = 3) (k : MW mJ2_get d 5 L (vi (miv M a 2) :: S) M Q) : MW mJ2_get d 2 L (vp a :: S) M Q := mw_getI (ci := 3) (k := 2) ⟨dJ2_get_2, rfl⟩ ⟨_, rfl, Nat.le_of_ble_eq_true rfl, Or.inl q151⟩ rfl hs k
theorem dJ2_get_5 : decode cJ2_get 5 = .ok (.invokestatic 118, 3) := dk_184 0 118 (dk_at dksJ2_get_0 5 rfl rfl)
theorem iJ2_get_5 {d : Nat} {L S : List MV} {M : MH} {Q : Out → MH → Prop} {v1 v2 : MV} {P : Int → MH → Prop} (hM : MCi mJ8_checkIndex d [v1, v2] M P) (k : ∀ z M', P z M' → MW mJ2_get (d + 1) 8 L (vi z :: S) M' Q) (h8 : Nat.ble (S.map mcat).sum 8 = true := by rfl) : MW mJ2_get (d + 1) 5 L (v2 :: v1 :: S) M Q := mw_calli (as := [v1, v2]) (site_S (Y' := mJ8_checkIndex) (n := 2) ⟨dJ2_get_5, rfl⟩ (Or.inl q661) q662 q110 wJ8_checkIndex nJ8_checkIndex hJ8_checkIndex rfl) kJ8_checkIndex (Nat.le_of_ble_eq_true h8) hM k
theorem dJ2_get_8 : decode cJ2_get 8 = .ok (.pop, 1) := dk_87 (dk_at dksJ2_get_0 8 rfl rfl)
theorem iJ2_get_8 {d : Nat} {L S : List MV} {M : MH} {Q : Out → MH → Prop} {v : MV} (k : MW mJ2_get d 9 L S M Q) (hv : mcat v = 1 := by rfl) : MW mJ2_get d 8 L (v :: S) M Q := mw_pop ⟨dJ2_get_8, rfl⟩ hv k
theorem dJ2_get_9 : decode cJ2_get 9 = .ok (.aload_n 0, 1) := dk_42 (dk_at dksJ2_get_0 9 rfl rfl)
theorem iJ2_get_9 {d : Nat} {r S : List MV} {M : MH} {Q : Out → MH → Prop} {o : Option Nat} (k : MW mJ2_get d 10 (vr o :: r) (vr o :: S) M Q) : MW mJ2_get d 9 (vr o :: r) S M Q := mw_aload_n ⟨dJ2_get_9, rfl⟩ rfl k
theorem dJ2_get_10 : decode cJ2_get 10 = .ok (.iload_n 1, 1) := dk_27 (dk_at dksJ2_get_0 10 rfl rfl)
theorem iJ2_get_10 {d : Nat} {r S : List MV} {M : MH} {Q : Out → MH → Prop} {w0 : MV} {z : Int} (k : MW mJ2_get d 11 (w0 :: vi z :: r) (vi z :: S) M Q) : MW mJ2_get d 10 (w0 :: vi z :: r) S M Q := mw_iload_n ⟨dJ2_get_10, rfl⟩ rfl k
theorem dJ2_get_11 : decode cJ2_get 11 = .ok (.invokevirtual 123, 3) := dk_182 0 123 (dk_at dksJ2_get_0 11 rfl rfl)
theorem iJ2_get_11 {d : Nat} {L S : List MV} {M : MH} {Q : Out → MH → Prop} {v1 : MV} {b : Nat} {P : Option Nat → MH → Prop} (hs : (msh M b).1 = 3) (hM : MCr mJ2_elementData d [vp b, v1] M P) (k : ∀ o M', P o M' → MW mJ2_get (d + 1) 14 L (vr o :: S) M' Q) (h8 : Nat.ble (S.map mcat).sum 8 = true := by rfl) : MW mJ2_get (d + 1) 11 L (v1 :: vp b :: S) M Q := mw_callr (as := [vp b, v1]) (site_V (Y' := mJ2_elementData) (n := 1) ⟨dJ2_get_11, rfl⟩ (Or.inl q667) q668 q669 wJ2_elementData nJ2_elementData hJ2_elementData (cls_of (ci := 3) rfl hs) rfl) kJ2_elementData (Nat.le_of_ble_eq_true h8) hM k
theorem dJ2_get_14 : decode cJ2_get 14 = .ok (.areturn, 1) := dk_176 (dk_at dksJ2_get_0 14 rfl rfl)
theorem iJ2_get_14 {d : Nat} {L : List MV} {M : MH} {P : Option Nat → MH → Prop} {o : Option Nat} (hq : P o M) : MW mJ2_get d 14 L [vr o] M (Rr P) := mw_retr ⟨dJ2_get_14, rfl⟩ rfl (Or.inl ⟨_, rfl⟩) hq
/-! J2_elementData -/
def dkwJ2_elementData_0 : List UInt8 := [42, 180, 0, 9, 27, 50, 176]
abbrev dktJ2_elementData_0 : List UInt8 := dkwJ2_elementData_0 ++ []
theorem dksJ2_elementData_0 : cJ2_elementData.data.toList.drop 0 = dktJ2_elementData_0 := by decide +kernel
theorem dJ2_elementData_0 : decode cJ2_elementData 0 = .ok (.aload_n 0, 1) := dk_42 (dk_at dksJ2_elementData_0 0 rfl rfl)
theorem iJ2_elementData_0 {d : Nat} {r S : List MV} {M : MH} {Q : Out → MH → Prop} {o : Option Nat} (k : MW mJ2_elementData d 1 (vr o :: r) (vr o :: S) M Q) : MW mJ2_elementData d 0 (vr o :: r) S M Q := mw_aload_n ⟨dJ2_elementData_0, rfl⟩ rfl k
theorem dJ2_elementData_1 : decode cJ2_elementData 1 = .ok (.getfield 9, 3) := dk_180 0 9 (dk_at dksJ2_elementData_0 1 rfl rfl)
theorem iJ2_elementData_1 {d : Nat} {L S : List MV} {M : MH} {Q : Out → MH → Prop} {a : Nat} {o : Option Nat} (hs : (msh M a).1 = 3) (hr : mrv M a 1 = o) (k : MW mJ2_elementData d 4 L (vr o :: S) M Q) : MW mJ2_elementData d 1 L (vp a :: S) M Q := mw_getR (ci := 3) (k := 1) ⟨dJ2_elementData_1, rfl⟩ ⟨_, rfl, Nat.le_of_ble_eq_true rfl, Or.inl q150⟩ rfl hs hr k
theorem dJ2_elementData_4 : decode cJ2_elementData 4 = .ok (.iload_n 1, 1) := dk_27 (dk_at dksJ2_elementData_0 4 rfl rfl)
theorem iJ2_elementData_4 {d : Nat} {r S : List MV} {M : MH} {Q : Out → MH → Prop} {w0 : MV} {z : Int} (k : MW mJ2_elementData d 5 (w0 :: vi z :: r) (vi z :: S) M Q) : MW mJ2_elementData d 4 (w0 :: vi z :: r) S M Q := mw_iload_n ⟨dJ2_elementData_4, rfl⟩ rfl k
theorem dJ2_elementData_5 : decode cJ2_elementData 5 = .ok (.aaload, 1) := dk_50 (dk_at dksJ2_elementData_0 5 rfl rfl)
theorem iJ2_elementData_5 {d : Nat} {L S : List MV} {M : MH} {Q : Out → MH → Prop} {a n ak : Nat} {z : Int} {o : Option Nat} (h4 : 4 ≤ ak) (hs : msh M a = (100 + ak, n)) (hi : 0 ≤ z ∧ z < n) (hn : n ≤ 2147483647) (hr : mrv M a z.toNat = o) (k : MW mJ2_elementData d 6 L (vr o :: S) M Q) : MW mJ2_elementData d 5 L (vi z :: vp a :: S) M Q := mw_aaload ⟨dJ2_elementData_5, rfl⟩ h4 hs hn hi hr k
theorem dJ2_elementData_6 : decode cJ2_elementData 6 = .ok (.areturn, 1) := dk_176 (dk_at dksJ2_elementData_0 6 rfl rfl)
theorem iJ2_elementData_6 {d : Nat} {L : List MV} {M : MH} {P : Option Nat → MH → Prop} {o : Option Nat} (hq : P o M) : MW mJ2_elementData d 6 L [vr o] M (Rr P) := mw_retr ⟨dJ2_elementData_6, rfl⟩ rfl (Or.inl ⟨_, rfl⟩) hq
/-! J5_newLength -/
def dkwJ5_newLength_1 : List UInt8 := [184, 0, 201, 172]
abbrev dktJ5_newLength_1 : List UInt8 := dkwJ5_newLength_1 ++ []
def dkwJ5_newLength_0 : List UInt8 := [26, 27, 28, 184, 0, 194, 96, 62, 3, 29, 162, 0, 11, 29, 18, 200, 163, 0, 5, 29, 172, 26, 27]
abbrev dktJ5_newLength_0 : List UInt8 := dkwJ5_newLength_0 ++ dktJ5_newLength_1
theorem dksJ5_newLength_0 : cJ5_newLength.data.toList.drop 0 = dktJ5_newLength_0 := by decide +kernel
theorem dksJ5_newLength_1 : cJ5_newLength.data.toList.drop 23 = dktJ5_newLength_1 := dk_seg dksJ5_newLength_0 23 rfl rfl
theorem dJ5_newLength_0 : decode cJ5_newLength 0 = .ok (.iload_n 0, 1) := dk_26 (dk_at dksJ5_newLength_0 0 rfl rfl)
theorem iJ5_newLength_0 {d : Nat} {r S : List MV} {M : MH} {Q : Out → MH → Prop} {z : Int} (k : MW mJ5_newLength d 1 (vi z :: r) (vi z :: S) M Q) : MW mJ5_newLength d 0 (vi z :: r) S M Q := mw_iload_n ⟨dJ5_newLength_0, rfl⟩ rfl k
theorem dJ5_newLength_1 : decode cJ5_newLength 1 = .ok (.iload_n 1, 1) := dk_27 (dk_at dksJ5_newLength_0 1 rfl rfl)
theorem iJ5_newLength_1 {d : Nat} {r S : List MV} {M : MH} {Q : Out → MH → Prop} {w0 : MV} {z : Int} (k : MW mJ5_newLength d 2 (w0 :: vi z :: r) (vi z :: S) M Q) : MW mJ5_newLength d 1 (w0 :: vi z :: r) S M Q := mw_iload_n ⟨dJ5_newLength_1, rfl⟩ rfl k
theorem dJ5_newLength_2 : decode cJ5_newLength 2 = .ok (.iload_n 2, 1) := dk_28 (dk_at dksJ5_newLength_0 2 rfl rfl)
theorem iJ5_newLength_2 {d : Nat} {r S : List MV} {M : MH} {Q : Out → MH → Prop} {w0 w1 : MV} {z : Int} (k : MW mJ5_newLength d 3 (w0 :: w1 :: vi z :: r) (vi z :: S) M Q) : MW mJ5_newLength d 2 (w0 :: w1 :: vi z :: r) S M Q := mw_iload_n ⟨dJ5_newLength_2, rfl⟩ rfl k
theorem dJ5_newLength_3 : decode cJ5_newLength 3 = .ok (.invokestatic 194, 3) := dk_184 0 194 (dk_at dksJ5_newLength_0 3 rfl rfl)
theorem iJ5_newLength_3 {d : Nat} {L S : List MV} {M : MH} {Q : Out → MH → Prop} {v1 v2 : MV} {P : Int → MH → Prop} (hM : MCi mJ6_max d [v1, v2] M P) (k : ∀ z M', P z M' → MW mJ5_newLength (d + 1) 6 L (vi z :: S) M' Q) (h8 : Nat.ble (S.map mcat).sum 8 = true := by rfl) : MW mJ5_newLength (d + 1) 3 L (v2 :: v1 :: S) M Q := mw_calli (as := [v1, v2]) (site_S (Y' := mJ6_max) (n := 2) ⟨dJ5_newLength_3, rfl⟩ (Or.inl q578) q579 q107 wJ6_max nJ6_max hJ6_max rfl) kJ6_max (Nat.le_of_ble_eq_true h8) hM k
theorem dJ5_newLength_6 : decode cJ5_newLength 6 = .ok (.iadd, 1) := dk_96 (dk_at dksJ5_newLength_0 6 rfl rfl)
theorem iJ5_newLength_6 {d : Nat} {L S : List MV} {M : MH} {Q : Out → MH → Prop} {a b : Int} (k : MW mJ5_newLength d 7 (L) (vi (a + b) :: S) M Q) : MW mJ5_newLength d 6 (L) (vi b :: vi a :: S) M Q := mw_iadd ⟨dJ5_newLength_6, rfl⟩ k
theorem dJ5_newLength_7 : decode cJ5_newLength 7 = .ok (.istore_n 3, 1) := dk_62 (dk_at dksJ5_newLength_0 7 rfl rfl)
theorem iJ5_newLength_7 {d : Nat} {r S : List MV} {M : MH} {Q : Out → MH → Prop} {w0 w1 w2 : MV} {z : Int} {v : MV} (k : MW mJ5_newLength d 8 (w0 :: w1 :: w2 :: vi z :: r) S M Q) (hok : okSt (w0 :: w1 :: w2 :: v :: r) 3 = true := by rfl) : MW mJ5_newLength d 7 (w0 :: w1 :: w2 :: v :: r) (vi z :: S) M Q := mw_istore_n (i := 3) ⟨dJ5_newLength_7, rfl⟩ rfl (Nat.le_of_ble_eq_true rfl) hok k
theorem dJ5_newLength_8 : decode cJ5_newLength 8 = .ok (.iconst 0, 1) := dk_3 (dk_at dksJ5_newLength_0 8 rfl rfl)
theorem iJ5_newLength_8 {d : Nat} {L S : List MV} {M : MH} {Q : Out → MH → Prop}  (k : MW mJ5_newLength d 9 (L) (vi 0 :: S) M Q) : MW mJ5_newLength d 8 (L) S M Q := mw_iconst ⟨dJ5_newLength_8, rfl⟩ k
theorem dJ5_newLength_9 : decode cJ5_newLength 9 = .ok (.iload_n 3, 1) := dk_29 (dk_at dksJ5_newLength_0 9 rfl rfl)
theorem iJ5_newLength_9 {d : Nat} {r S : List MV} {M : MH} {Q : Out → MH → Prop} {w0 w1 w2 : MV} {z : Int} (k : MW mJ5_newLength d 10 (w0 :: w1 :: w2 :: vi z :: r) (vi z :: S) M Q) : MW mJ5_newLength d 9 (w0 :: w1 :: w2 :: vi z :: r) S M Q := mw_iload_n ⟨dJ5_newLength_9, rfl⟩ rfl k
theorem dJ5_newLength_10 : decode cJ5_newLength 10 = .ok (.if_icmp .ge 11, 3) := dk_162 0 11 (dk_at dksJ5_newLength_0 10 rfl rfl)
theorem iJ5_newLength_10 {d : Nat} {L S : List MV} {M : MH} {Q : Out → MH → Prop} {a b : Int} (ha : inR a) (hb : inR b) (kt : b ≤ a → MW mJ5_newLength d 21 L S M Q) (kf : ¬ b ≤ a → MW mJ5_newLength d 13 L S M Q) : MW mJ5_newLength d 10 L (vi b :: vi a :: S) M Q := mw_icmp_ge ⟨dJ5_newLength_10, rfl⟩ rfl ha hb kt kf
theorem dJ5_newLength_13 : decode cJ5_newLength 13 = .ok (.iload_n 3, 1) := dk_29 (dk_at dksJ5_newLength_0 13 rfl rfl)
theorem iJ5_newLength_13 {d : Nat} {r S : List MV} {M : MH} {Q : Out → MH → Prop} {w0 w1 w2 : MV} {z : Int} (k : MW mJ5_newLength d 14 (w0 :: w1 :: w2 :: vi z :: r) (vi z :: S) M Q) : MW mJ5_newLength d 13 (w0 :: w1 :: w2 :: vi z :: r) S M Q := mw_iload_n ⟨dJ5_newLength_13, rfl⟩ rfl k
theorem dJ5_newLength_14 : decode cJ5_newLength 14 = .ok (.ldc 200, 2) := dk_18 200 (dk_at dksJ5_newLength_0 14 rfl rfl)
theorem iJ5_newLength_14 {d : Nat} {L S : List MV} {M : MH} {Q : Out → MH → Prop}  (k : MW mJ5_newLength d 16 (L) (vi 2147483639 :: S) M Q) : MW mJ5_newLength d 14 (L) S M Q := mw_ldc (n := 2147483639) ⟨dJ5_newLength_14, rfl⟩ (by have h := q581; rw [show (2147483639 : Int32) = Int32.ofInt (2147483639) from by decide] at h; exact h) k
theorem dJ5_newLength_16 : decode cJ5_newLength 16 = .ok (.if_icmp .gt 5, 3) := dk_163 0 5 (dk_at dksJ5_newLength_0 16 rfl rfl)
theorem iJ5_newLength_16 {d : Nat} {L S : List MV} {M : MH} {Q : Out → MH → Prop} {a b : Int} (ha : inR a) (hb : inR b) (kt : b < a → MW mJ5_newLength d 21 L S M Q) (kf : ¬ b < a → MW mJ5_newLength d 19 L S M Q) : MW mJ5_newLength d 16 L (vi b :: vi a :: S) M Q := mw_icmp_gt ⟨dJ5_newLength_16, rfl⟩ rfl ha hb kt kf
theorem dJ5_newLength_19 : decode cJ5_newLength 19 = .ok (.iload_n 3, 1) := dk_29 (dk_at dksJ5_newLength_0 19 rfl rfl)
theorem iJ5_newLength_19 {d : Nat} {r S : List MV} {M : MH} {Q : Out → MH → Prop} {w0 w1 w2 : MV} {z : Int} (k : MW mJ5_newLength d 20 (w0 :: w1 :: w2 :: vi z :: r) (vi z :: S) M Q) : MW mJ5_newLength d 19 (w0 :: w1 :: w2 :: vi z :: r) S M Q := mw_iload_n ⟨dJ5_newLength_19, rfl⟩ rfl k
theorem dJ5_newLength_20 : decode cJ5_newLength 20 = .ok (.ireturn, 1) := dk_172 (dk_at dksJ5_newLength_0 20 rfl rfl)
theorem iJ5_newLength_20 {d : Nat} {L : List MV} {M : MH} {P : Int → MH → Prop} {z : Int} (hq : P z M) : MW mJ5_newLength d 20 L [vi z] M (Ri P) := mw_reti ⟨dJ5_newLength_20, rfl⟩ rfl hq
theorem dJ5_newLength_21 : decode cJ5_newLength 21 = .ok (.iload_n 0, 1) := dk_26 (dk_at dksJ5_newLength_0 21 rfl rfl)
theorem iJ5_newLength_21 {d : Nat} {r S : List MV} {M : MH} {Q : Out → MH → Prop} {z : Int} (k : MW mJ5_newLength d 22 (vi z :: r) (vi z :: S) M Q) : MW mJ5_newLength d 21 (vi z :: r) S M Q := mw_iload_n ⟨dJ5_newLength_21, rfl⟩ rfl k
theorem dJ5_newLength_22 : decode cJ5_newLength 22 = .ok (.iload_n 1, 1) := dk_27 (dk_at dksJ5_newLength_0 22 rfl rfl)
theorem iJ5_newLength_22 {d : Nat} {r S : List MV} {M : MH} {Q : Out → MH → Prop} {w0 : MV} {z : Int} (k : MW mJ5_newLength d 23 (w0 :: vi z :: r) (vi z :: S) M Q) : MW mJ5_newLength d 22 (w0 :: vi z :: r) S M Q := mw_iload_n ⟨dJ5_newLength_22, rfl⟩ rfl k
theorem dJ5_newLength_23 : decode cJ5_newLength 23 = .ok (.invokestatic 201, 3) := dk_184 0 201 (dk_at dksJ5_newLength_1 0 rfl rfl)
theorem iJ5_newLength_23 {d : Nat} {L S : List MV} {M : MH} {Q : Out → MH → Prop} {v1 v2 : MV} {P : Int → MH → Prop} (hM : MCi mJ5_hugeLength d [v1, v2] M P) (k : ∀ z M', P z M' → MW mJ5_newLength (d + 1) 26 L (vi z :: S) M' Q) (h8 : Nat.ble (S.map mcat).sum 8 = true := by rfl) : MW mJ5_newLength (d + 1) 23 L (v2 :: v1 :: S) M Q := mw_calli (as := [v1, v2]) (site_S (Y' := mJ5_hugeLength) (n := 2) ⟨dJ5_newLength_23, rfl⟩ (Or.inl q582) q583 q106 wJ5_hugeLength nJ5_hugeLength hJ5_hugeLength rfl) kJ5_hugeLength (Nat.le_of_ble_eq_true h8) hM k
theorem dJ5_newLength_26 : decode cJ5_newLength 26 = .ok (.ireturn, 1) := dk_172 (dk_at dksJ5_newLength_1 3 rfl rfl)
theorem iJ5_newLength_26 {d : Nat} {L : List MV} {M : MH} {P : Int → MH → Prop} {z : Int} (hq : P z M) : MW mJ5_newLength d 26 L [vi z] M (Ri P) := mw_reti ⟨dJ5_newLength_26, rfl⟩ rfl hq
/-! J5_hugeLength -/
def dkwJ5_hugeLength_2 : List UInt8 := [191, 28, 18, 200, 163, 0, 6, 18, 200, 172, 28, 172]
abbrev dktJ5_hugeLength_2 : List UInt8 := dkwJ5_hugeLength_2 ++ []
def dkwJ5_hugeLength_1 : List UInt8 := [26, 182, 0, 98, 18, 208, 182, 0, 94, 27, 182, 0, 98, 18, 210, 182, 0, 94, 182, 0, 101, 183, 0, 212]
abbrev dktJ5_hugeLength_1 : List UInt8 := dkwJ5_hugeLength_1 ++ dktJ5_hugeLength_2
def dkwJ5_hugeLength_0 : List UInt8 := [26, 27, 96, 61, 28, 156, 0, 44, 187, 0, 204, 89, 187, 0, 89, 89, 183, 0, 91, 18, 206, 182, 0, 94]
abbrev dktJ5_hugeLength_0 : List UInt8 := dkwJ5_hugeLength_0 ++ dktJ5_hugeLength_1
theorem dksJ5_hugeLength_0 : cJ5_hugeLength.data.toList.drop 0 = dktJ5_hugeLength_0 := by decide +kernel
theorem dksJ5_hugeLength_1 : cJ5_hugeLength.data.toList.drop 24 = dktJ5_hugeLength_1 := dk_seg dksJ5_hugeLength_0 24 rfl rfl
theorem dksJ5_hugeLength_2 : cJ5_hugeLength.data.toList.drop 48 = dktJ5_hugeLength_2 := dk_seg dksJ5_hugeLength_1 24 rfl rfl
theorem dJ5_hugeLength_0 : decode cJ5_hugeLength 0 = .ok (.iload_n 0, 1) := dk_26 (dk_at dksJ5_hugeLength_0 0 rfl rfl)
theorem iJ5_hugeLength_0 {d : Nat} {r S : List MV} {M : MH} {Q : Out → MH → Prop} {z : Int} (k : MW mJ5_hugeLength d 1 (vi z :: r) (vi z :: S) M Q) : MW mJ5_hugeLength d 0 (vi z :: r) S M Q := mw_iload_n ⟨dJ5_hugeLength_0, rfl⟩ rfl k
theorem dJ5_hugeLength_1 : decode cJ5_hugeLength 1 = .ok (.iload_n 1, 1) := dk_27 (dk_at dksJ5_hugeLength_0 1 rfl rfl)
theorem iJ5_hugeLength_1 {d : Nat} {r S : List MV} {M : MH} {Q : Out → MH → Prop} {w0 : MV} {z : Int} (k : MW mJ5_hugeLength d 2 (w0 :: vi z :: r) (vi z :: S) M Q) : MW mJ5_hugeLength d 1 (w0 :: vi z :: r) S M Q := mw_iload_n ⟨dJ5_hugeLength_1, rfl⟩ rfl k
theorem dJ5_hugeLength_2 : decode cJ5_hugeLength 2 = .ok (.iadd, 1) := dk_96 (dk_at dksJ5_hugeLength_0 2 rfl rfl)
theorem iJ5_hugeLength_2 {d : Nat} {L S : List MV} {M : MH} {Q : Out → MH → Prop} {a b : Int} (k : MW mJ5_hugeLength d 3 (L) (vi (a + b) :: S) M Q) : MW mJ5_hugeLength d 2 (L) (vi b :: vi a :: S) M Q := mw_iadd ⟨dJ5_hugeLength_2, rfl⟩ k
theorem dJ5_hugeLength_3 : decode cJ5_hugeLength 3 = .ok (.istore_n 2, 1) := dk_61 (dk_at dksJ5_hugeLength_0 3 rfl rfl)
theorem iJ5_hugeLength_3 {d : Nat} {r S : List MV} {M : MH} {Q : Out → MH → Prop} {w0 w1 : MV} {z : Int} {v : MV} (k : MW mJ5_hugeLength d 4 (w0 :: w1 :: vi z :: r) S M Q) (hok : okSt (w0 :: w1 :: v :: r) 2 = true := by rfl) : MW mJ5_hugeLength d 3 (w0 :: w1 :: v :: r) (vi z :: S) M Q := mw_istore_n (i := 2) ⟨dJ5_hugeLength_3, rfl⟩ rfl (Nat.le_of_ble_eq_true rfl) hok k
theorem dJ5_hugeLength_4 : decode cJ5_hugeLength 4 = .ok (.iload_n 2, 1) := dk_28 (dk_at dksJ5_hugeLength_0 4 rfl rfl)
theorem iJ5_hugeLength_4 {d : Nat} {r S : List MV} {M : MH} {Q : Out → MH → Prop} {w0 w1 : MV} {z : Int} (k : MW mJ5_hugeLength d 5 (w0 :: w1 :: vi z :: r) (vi z :: S) M Q) : MW mJ5_hugeLength d 4 (w0 :: w1 :: vi z :: r) S M Q := mw_iload_n ⟨dJ5_hugeLength_4, rfl⟩ rfl k
theorem dJ5_hugeLength_5 : decode cJ5_hugeLength 5 = .ok (.ifCond .ge 44, 3) := dk_156 0 44 (dk_at dksJ5_hugeLength_0 5 rfl rfl)
theorem iJ5_hugeLength_5 {d : Nat} {L S : List MV} {M : MH} {Q : Out → MH → Prop} {a : Int} (ha : inR a) (kt : 0 ≤ a → MW mJ5_hugeLength d 49 L S M Q) (kf : ¬ 0 ≤ a → MW mJ5_hugeLength d 8 L S M Q) : MW mJ5_hugeLength d 5 L (vi a :: S) M Q := mw_if_ge ⟨dJ5_hugeLength_5, rfl⟩ rfl ha kt kf
theorem dJ5_hugeLength_8 : decode cJ5_hugeLength 8 = .ok (.new 204, 3) := dk_187 0 204 (dk_at dksJ5_hugeLength_0 8 rfl rfl)
theorem dJ5_hugeLength_11 : decode cJ5_hugeLength 11 = .ok (.dup, 1) := dk_89 (dk_at dksJ5_hugeLength_0 11 rfl rfl)
theorem iJ5_hugeLength_11 {d : Nat} {L S : List MV} {M : MH} {Q : Out → MH → Prop} {v : MV} (k : MW mJ5_hugeLength d 12 L (v :: v :: S) M Q) (hv : mcat v = 1 := by rfl) : MW mJ5_hugeLength d 11 L (v :: S) M Q := mw_dup ⟨dJ5_hugeLength_11, rfl⟩ hv k
theorem dJ5_hugeLength_12 : decode cJ5_hugeLength 12 = .ok (.new 89, 3) := dk_187 0 89 (dk_at dksJ5_hugeLength_0 12 rfl rfl)
theorem dJ5_hugeLength_15 : decode cJ5_hugeLength 15 = .ok (.dup, 1) := dk_89 (dk_at dksJ5_hugeLength_0 15 rfl rfl)
theorem iJ5_hugeLength_15 {d : Nat} {L S : List MV} {M : MH} {Q : Out → MH → Prop} {v : MV} (k : MW mJ5_hugeLength d 16 L (v :: v :: S) M Q) (hv : mcat v = 1 := by rfl) : MW mJ5_hugeLength d 15 L (v :: S) M Q := mw_dup ⟨dJ5_hugeLength_15, rfl⟩ hv k
theorem dJ5_hugeLength_16 : decode cJ5_hugeLength 16 = .ok (.invokespecial 91, 3) := dk_183 0 91 (dk_at dksJ5_hugeLength_0 16 rfl rfl)
theorem dJ5_hugeLength_19 : decode cJ5_hugeLength 19 = .ok (.ldc 206, 2) := dk_18 206 (dk_at dksJ5_hugeLength_0 19 rfl rfl)
theorem dJ5_hugeLength_21 : decode cJ5_hugeLength 21 = .ok (.invokevirtual 94, 3) := dk_182 0 94 (dk_at dksJ5_hugeLength_0 21 rfl rfl)
theorem dJ5_hugeLength_24 : decode cJ5_hugeLength 24 = .ok (.iload_n 0, 1) := dk_26 (dk_at dksJ5_hugeLength_1 0 rfl rfl)
theorem iJ5_hugeLength_24 {d : Nat} {r S : List MV} {M : MH} {Q : Out → MH → Prop} {z : Int} (k : MW mJ5_hugeLength d 25 (vi z :: r) (vi z :: S) M Q) : MW mJ5_hugeLength d 24 (vi z :: r) S M Q := mw_iload_n ⟨dJ5_hugeLength_24, rfl⟩ rfl k
theorem dJ5_hugeLength_25 : decode cJ5_hugeLength 25 = .ok (.invokevirtual 98, 3) := dk_182 0 98 (dk_at dksJ5_hugeLength_1 1 rfl rfl)
theorem dJ5_hugeLength_28 : decode cJ5_hugeLength 28 = .ok (.ldc 208, 2) := dk_18 208 (dk_at dksJ5_hugeLength_1 4 rfl rfl)
theorem dJ5_hugeLength_30 : decode cJ5_hugeLength 30 = .ok (.invokevirtual 94, 3) := dk_182 0 94 (dk_at dksJ5_hugeLength_1 6 rfl rfl)
theorem dJ5_hugeLength_33 : decode cJ5_hugeLength 33 = .ok (.iload_n 1, 1) := dk_27 (dk_at dksJ5_hugeLength_1 9 rfl rfl)
theorem iJ5_hugeLength_33 {d : Nat} {r S : List MV} {M : MH} {Q : Out → MH → Prop} {w0 : MV} {z : Int} (k : MW mJ5_hugeLength d 34 (w0 :: vi z :: r) (vi z :: S) M Q) : MW mJ5_hugeLength d 33 (w0 :: vi z :: r) S M Q := mw_iload_n ⟨dJ5_hugeLength_33, rfl⟩ rfl k
theorem dJ5_hugeLength_34 : decode cJ5_hugeLength 34 = .ok (.invokevirtual 98, 3) := dk_182 0 98 (dk_at dksJ5_hugeLength_1 10 rfl rfl)
theorem dJ5_hugeLength_37 : decode cJ5_hugeLength 37 = .ok (.ldc 210, 2) := dk_18 210 (dk_at dksJ5_hugeLength_1 13 rfl rfl)
theorem dJ5_hugeLength_39 : decode cJ5_hugeLength 39 = .ok (.invokevirtual 94, 3) := dk_182 0 94 (dk_at dksJ5_hugeLength_1 15 rfl rfl)
theorem dJ5_hugeLength_42 : decode cJ5_hugeLength 42 = .ok (.invokevirtual 101, 3) := dk_182 0 101 (dk_at dksJ5_hugeLength_1 18 rfl rfl)
theorem dJ5_hugeLength_45 : decode cJ5_hugeLength 45 = .ok (.invokespecial 212, 3) := dk_183 0 212 (dk_at dksJ5_hugeLength_1 21 rfl rfl)
theorem dJ5_hugeLength_48 : decode cJ5_hugeLength 48 = .ok (.athrow, 1) := dk_191 (dk_at dksJ5_hugeLength_2 0 rfl rfl)
theorem dJ5_hugeLength_49 : decode cJ5_hugeLength 49 = .ok (.iload_n 2, 1) := dk_28 (dk_at dksJ5_hugeLength_2 1 rfl rfl)
theorem iJ5_hugeLength_49 {d : Nat} {r S : List MV} {M : MH} {Q : Out → MH → Prop} {w0 w1 : MV} {z : Int} (k : MW mJ5_hugeLength d 50 (w0 :: w1 :: vi z :: r) (vi z :: S) M Q) : MW mJ5_hugeLength d 49 (w0 :: w1 :: vi z :: r) S M Q := mw_iload_n ⟨dJ5_hugeLength_49, rfl⟩ rfl k
theorem dJ5_hugeLength_50 : decode cJ5_hugeLength 50 = .ok (.ldc 200, 2) := dk_18 200 (dk_at dksJ5_hugeLength_2 2 rfl rfl)
theorem iJ5_hugeLength_50 {d : Nat} {L S : List MV} {M : MH} {Q : Out → MH → Prop}  (k : MW mJ5_hugeLength d 52 (L) (vi 2147483639 :: S) M Q) : MW mJ5_hugeLength d 50 (L) S M Q := mw_ldc (n := 2147483639) ⟨dJ5_hugeLength_50, rfl⟩ (by have h := q581; rw [show (2147483639 : Int32) = Int32.ofInt (2147483639) from by decide] at h; exact h) k
theorem dJ5_hugeLength_52 : decode cJ5_hugeLength 52 = .ok (.if_icmp .gt 6, 3) := dk_163 0 6 (dk_at dksJ5_hugeLength_2 4 rfl rfl)
theorem iJ5_hugeLength_52 {d : Nat} {L S : List MV} {M : MH} {Q : Out → MH → Prop} {a b : Int} (ha : inR a) (hb : inR b) (kt : b < a → MW mJ5_hugeLength d 58 L S M Q) (kf : ¬ b < a → MW mJ5_hugeLength d 55 L S M Q) : MW mJ5_hugeLength d 52 L (vi b :: vi a :: S) M Q := mw_icmp_gt ⟨dJ5_hugeLength_52, rfl⟩ rfl ha hb kt kf
theorem dJ5_hugeLength_55 : decode cJ5_hugeLength 55 = .ok (.ldc 200, 2) := dk_18 200 (dk_at dksJ5_hugeLength_2 7 rfl rfl)
theorem iJ5_hugeLength_55 {d : Nat} {L S : List MV} {M : MH} {Q : Out → MH → Prop}  (k : MW mJ5_hugeLength d 57 (L) (vi 2147483639 :: S) M Q) : MW mJ5_hugeLength d 55 (L) S M Q := mw_ldc (n := 2147483639) ⟨dJ5_hugeLength_55, rfl⟩ (by have h := q581; rw [show (2147483639 : Int32) = Int32.ofInt (2147483639) from by decide] at h; exact h) k
theorem dJ5_hugeLength_57 : decode cJ5_hugeLength 57 = .ok (.ireturn, 1) := dk_172 (dk_at dksJ5_hugeLength_2 9 rfl rfl)
theorem iJ5_hugeLength_57 {d : Nat} {L : List MV} {M : MH} {P : Int → MH → Prop} {z : Int} (hq : P z M) : MW mJ5_hugeLength d 57 L [vi z] M (Ri P) := mw_reti ⟨dJ5_hugeLength_57, rfl⟩ rfl hq
theorem dJ5_hugeLength_58 : decode cJ5_hugeLength 58 = .ok (.iload_n 2, 1) := dk_28 (dk_at dksJ5_hugeLength_2 10 rfl rfl)
theorem iJ5_hugeLength_58 {d : Nat} {r S : List MV} {M : MH} {Q : Out → MH → Prop} {w0 w1 : MV} {z : Int} (k : MW mJ5_hugeLength d 59 (w0 :: w1 :: vi z :: r) (vi z :: S) M Q) : MW mJ5_hugeLength d 58 (w0 :: w1 :: vi z :: r) S M Q := mw_iload_n ⟨dJ5_hugeLength_58, rfl⟩ rfl k
theorem dJ5_hugeLength_59 : decode cJ5_hugeLength 59 = .ok (.ireturn, 1) := dk_172 (dk_at dksJ5_hugeLength_2 11 rfl rfl)
theorem iJ5_hugeLength_59 {d : Nat} {L : List MV} {M : MH} {P : Int → MH → Prop} {z : Int} (hq : P z M) : MW mJ5_hugeLength d 59 L [vi z] M (Ri P) := mw_reti ⟨dJ5_hugeLength_59, rfl⟩ rfl hq
/-! J6_max -/
def dkwJ6_max_0 : List UInt8 := [26, 27, 161, 0, 7, 26, 167, 0, 4, 27, 172]
abbrev dktJ6_max_0 : List UInt8 := dkwJ6_max_0 ++ []
theorem dksJ6_max_0 : cJ6_max.data.toList.drop 0 = dktJ6_max_0 := by decide +kernel
theorem dJ6_max_0 : decode cJ6_max 0 = .ok (.iload_n 0, 1) := dk_26 (dk_at dksJ6_max_0 0 rfl rfl)
theorem iJ6_max_0 {d : Nat} {r S : List MV} {M : MH} {Q : Out → MH → Prop} {z : Int} (k : MW mJ6_max d 1 (vi z :: r) (vi z :: S) M Q) : MW mJ6_max d 0 (vi z :: r) S M Q := mw_iload_n ⟨dJ6_max_0, rfl⟩ rfl k
theorem dJ6_max_1 : decode cJ6_max 1 = .ok (.iload_n 1, 1) := dk_27 (dk_at dksJ6_max_0 1 rfl rfl)
theorem iJ6_max_1 {d : Nat} {r S : List MV} {M : MH} {Q : Out → MH → Prop} {w0 : MV} {z : Int} (k : MW mJ6_max d 2 (w0 :: vi z :: r) (vi z :: S) M Q) : MW mJ6_max d 1 (w0 :: vi z :: r) S M Q := mw_iload_n ⟨dJ6_max_1, rfl⟩ rfl k
theorem dJ6_max_2 : decode cJ6_max 2 = .ok (.if_icmp .lt 7, 3) := dk_161 0 7 (dk_at dksJ6_max_0 2 rfl rfl)
theorem iJ6_max_2 {d : Nat} {L S : List MV} {M : MH} {Q : Out → MH → Prop} {a b : Int} (ha : inR a) (hb : inR b) (kt : a < b → MW mJ6_max d 9 L S M Q) (kf : ¬ a < b → MW mJ6_max d 5 L S M Q) : MW mJ6_max d 2 L (vi b :: vi a :: S) M Q := mw_icmp_lt ⟨dJ6_max_2, rfl⟩ rfl ha hb kt kf
theorem dJ6_max_5 : decode cJ6_max 5 = .ok (.iload_n 0, 1) := dk_26 (dk_at dksJ6_max_0 5 rfl rfl)
theorem iJ6_max_5 {d : Nat} {r S : List MV} {M : MH} {Q : Out → MH → Prop} {z : Int} (k : MW mJ6_max d 6 (vi z :: r) (vi z :: S) M Q) : MW mJ6_max d 5 (vi z :: r) S M Q := mw_iload_n ⟨dJ6_max_5, rfl⟩ rfl k
theorem dJ6_max_6 : decode cJ6_max 6 = .ok (.goto 4, 3) := dk_167 0 4 (dk_at dksJ6_max_0 6 rfl rfl)
theorem iJ6_max_6 {d : Nat} {L S : List MV} {M : MH} {Q : Out → MH → Prop}  (k : MW mJ6_max d 10 (L) S M Q) : MW mJ6_max d 6 (L) S M Q := mw_goto ⟨dJ6_max_6, rfl⟩ rfl k
theorem dJ6_max_9 : decode cJ6_max 9 = .ok (.iload_n 1, 1) := dk_27 (dk_at dksJ6_max_0 9 rfl rfl)
theorem iJ6_max_9 {d : Nat} {r S : List MV} {M : MH} {Q : Out → MH → Prop} {w0 : MV} {z : Int} (k : MW mJ6_max d 10 (w0 :: vi z :: r) (vi z :: S) M Q) : MW mJ6_max d 9 (w0 :: vi z :: r) S M Q := mw_iload_n ⟨dJ6_max_9, rfl⟩ rfl k
theorem dJ6_max_10 : decode cJ6_max 10 = .ok (.ireturn, 1) := dk_172 (dk_at dksJ6_max_0 10 rfl rfl)
theorem iJ6_max_10 {d : Nat} {L : List MV} {M : MH} {P : Int → MH → Prop} {z : Int} (hq : P z M) : MW mJ6_max d 10 L [vi z] M (Ri P) := mw_reti ⟨dJ6_max_10, rfl⟩ rfl hq
/-! J6_min -/
def dkwJ6_min_0 : List UInt8 := [26, 27, 163, 0, 7, 26, 167, 0, 4, 27, 172]
abbrev dktJ6_min_0 : List UInt8 := dkwJ6_min_0 ++ []
theorem dksJ6_min_0 : cJ6_min.data.toList.drop 0 = dktJ6_min_0 := by decide +kernel
theorem dJ6_min_0 : decode cJ6_min 0 = .ok (.iload_n 0, 1) := dk_26 (dk_at dksJ6_min_0 0 rfl rfl)
theorem iJ6_min_0 {d : Nat} {r S : List MV} {M : MH} {Q : Out → MH → Prop} {z : Int} (k : MW mJ6_min d 1 (vi z :: r) (vi z :: S) M Q) : MW mJ6_min d 0 (vi z :: r) S M Q := mw_iload_n ⟨dJ6_min_0, rfl⟩ rfl k
theorem dJ6_min_1 : decode cJ6_min 1 = .ok (.iload_n 1, 1) := dk_27 (dk_at dksJ6_min_0 1 rfl rfl)
theorem iJ6_min_1 {d : Nat} {r S : List MV} {M : MH} {Q : Out → MH → Prop} {w0 : MV} {z : Int} (k : MW mJ6_min d 2 (w0 :: vi z :: r) (vi z :: S) M Q) : MW mJ6_min d 1 (w0 :: vi z :: r) S M Q := mw_iload_n ⟨dJ6_min_1, rfl⟩ rfl k
theorem dJ6_min_2 : decode cJ6_min 2 = .ok (.if_icmp .gt 7, 3) := dk_163 0 7 (dk_at dksJ6_min_0 2 rfl rfl)
theorem iJ6_min_2 {d : Nat} {L S : List MV} {M : MH} {Q : Out → MH → Prop} {a b : Int} (ha : inR a) (hb : inR b) (kt : b < a → MW mJ6_min d 9 L S M Q) (kf : ¬ b < a → MW mJ6_min d 5 L S M Q) : MW mJ6_min d 2 L (vi b :: vi a :: S) M Q := mw_icmp_gt ⟨dJ6_min_2, rfl⟩ rfl ha hb kt kf
theorem dJ6_min_5 : decode cJ6_min 5 = .ok (.iload_n 0, 1) := dk_26 (dk_at dksJ6_min_0 5 rfl rfl)
theorem iJ6_min_5 {d : Nat} {r S : List MV} {M : MH} {Q : Out → MH → Prop} {z : Int} (k : MW mJ6_min d 6 (vi z :: r) (vi z :: S) M Q) : MW mJ6_min d 5 (vi z :: r) S M Q := mw_iload_n ⟨dJ6_min_5, rfl⟩ rfl k
theorem dJ6_min_6 : decode cJ6_min 6 = .ok (.goto 4, 3) := dk_167 0 4 (dk_at dksJ6_min_0 6 rfl rfl)
theorem iJ6_min_6 {d : Nat} {L S : List MV} {M : MH} {Q : Out → MH → Prop}  (k : MW mJ6_min d 10 (L) S M Q) : MW mJ6_min d 6 (L) S M Q := mw_goto ⟨dJ6_min_6, rfl⟩ rfl k
theorem dJ6_min_9 : decode cJ6_min 9 = .ok (.iload_n 1, 1) := dk_27 (dk_at dksJ6_min_0 9 rfl rfl)
theorem iJ6_min_9 {d : Nat} {r S : List MV} {M : MH} {Q : Out → MH → Prop} {w0 : MV} {z : Int} (k : MW mJ6_min d 10 (w0 :: vi z :: r) (vi z :: S) M Q) : MW mJ6_min d 9 (w0 :: vi z :: r) S M Q := mw_iload_n ⟨dJ6_min_9, rfl⟩ rfl k
theorem dJ6_min_10 : decode cJ6_min 10 = .ok (.ireturn, 1) := dk_172 (dk_at dksJ6_min_0 10 rfl rfl)
theorem iJ6_min_10 {d : Nat} {L : List MV} {M : MH} {P : Int → MH → Prop} {z : Int} (hq : P z M) : MW mJ6_min d 10 L [vi z] M (Ri P) := mw_reti ⟨dJ6_min_10, rfl⟩ rfl hq
/-! J6_abs -/
def dkwJ6_abs_0 : List UInt8 := [26, 156, 0, 8, 26, 116, 167, 0, 4, 26, 172]
abbrev dktJ6_abs_0 : List UInt8 := dkwJ6_abs_0 ++ []
theorem dksJ6_abs_0 : cJ6_abs.data.toList.drop 0 = dktJ6_abs_0 := by decide +kernel
theorem dJ6_abs_0 : decode cJ6_abs 0 = .ok (.iload_n 0, 1) := dk_26 (dk_at dksJ6_abs_0 0 rfl rfl)
theorem iJ6_abs_0 {d : Nat} {r S : List MV} {M : MH} {Q : Out → MH → Prop} {z : Int} (k : MW mJ6_abs d 1 (vi z :: r) (vi z :: S) M Q) : MW mJ6_abs d 0 (vi z :: r) S M Q := mw_iload_n ⟨dJ6_abs_0, rfl⟩ rfl k
theorem dJ6_abs_1 : decode cJ6_abs 1 = .ok (.ifCond .ge 8, 3) := dk_156 0 8 (dk_at dksJ6_abs_0 1 rfl rfl)
theorem iJ6_abs_1 {d : Nat} {L S : List MV} {M : MH} {Q : Out → MH → Prop} {a : Int} (ha : inR a) (kt : 0 ≤ a → MW mJ6_abs d 9 L S M Q) (kf : ¬ 0 ≤ a → MW mJ6_abs d 4 L S M Q) : MW mJ6_abs d 1 L (vi a :: S) M Q := mw_if_ge ⟨dJ6_abs_1, rfl⟩ rfl ha kt kf
theorem dJ6_abs_4 : decode cJ6_abs 4 = .ok (.iload_n 0, 1) := dk_26 (dk_at dksJ6_abs_0 4 rfl rfl)
theorem iJ6_abs_4 {d : Nat} {r S : List MV} {M : MH} {Q : Out → MH → Prop} {z : Int} (k : MW mJ6_abs d 5 (vi z :: r) (vi z :: S) M Q) : MW mJ6_abs d 4 (vi z :: r) S M Q := mw_iload_n ⟨dJ6_abs_4, rfl⟩ rfl k
theorem dJ6_abs_5 : decode cJ6_abs 5 = .ok (.ineg, 1) := dk_116 (dk_at dksJ6_abs_0 5 rfl rfl)
theorem iJ6_abs_5 {d : Nat} {L S : List MV} {M : MH} {Q : Out → MH → Prop} {a : Int} (k : MW mJ6_abs d 6 (L) (vi (-a) :: S) M Q) : MW mJ6_abs d 5 (L) (vi a :: S) M Q := mw_ineg ⟨dJ6_abs_5, rfl⟩ k
theorem dJ6_abs_6 : decode cJ6_abs 6 = .ok (.goto 4, 3) := dk_167 0 4 (dk_at dksJ6_abs_0 6 rfl rfl)
theorem iJ6_abs_6 {d : Nat} {L S : List MV} {M : MH} {Q : Out → MH → Prop}  (k : MW mJ6_abs d 10 (L) S M Q) : MW mJ6_abs d 6 (L) S M Q := mw_goto ⟨dJ6_abs_6, rfl⟩ rfl k
theorem dJ6_abs_9 : decode cJ6_abs 9 = .ok (.iload_n 0, 1) := dk_26 (dk_at dksJ6_abs_0 9 rfl rfl)
theorem iJ6_abs_9 {d : Nat} {r S : List MV} {M : MH} {Q : Out → MH → Prop} {z : Int} (k : MW mJ6_abs d 10 (vi z :: r) (vi z :: S) M Q) : MW mJ6_abs d 9 (vi z :: r) S M Q := mw_iload_n ⟨dJ6_abs_9, rfl⟩ rfl k
theorem dJ6_abs_10 : decode cJ6_abs 10 = .ok (.ireturn, 1) := dk_172 (dk_at dksJ6_abs_0 10 rfl rfl)
theorem iJ6_abs_10 {d : Nat} {L : List MV} {M : MH} {P : Int → MH → Prop} {z : Int} (hq : P z M) : MW mJ6_abs d 10 L [vi z] M (Ri P) := mw_reti ⟨dJ6_abs_10, rfl⟩ rfl hq
/-! J7_copyOf -/
def dkwJ7_copyOf_0 : List UInt8 := [42, 27, 42, 182, 0, 86, 184, 1, 44, 176]
abbrev dktJ7_copyOf_0 : List UInt8 := dkwJ7_copyOf_0 ++ []
theorem dksJ7_copyOf_0 : cJ7_copyOf.data.toList.drop 0 = dktJ7_copyOf_0 := by decide +kernel
theorem dJ7_copyOf_0 : decode cJ7_copyOf 0 = .ok (.aload_n 0, 1) := dk_42 (dk_at dksJ7_copyOf_0 0 rfl rfl)
theorem iJ7_copyOf_0 {d : Nat} {r S : List MV} {M : MH} {Q : Out → MH → Prop} {o : Option Nat} (k : MW mJ7_copyOf d 1 (vr o :: r) (vr o :: S) M Q) : MW mJ7_copyOf d 0 (vr o :: r) S M Q := mw_aload_n ⟨dJ7_copyOf_0, rfl⟩ rfl k
theorem dJ7_copyOf_1 : decode cJ7_copyOf 1 = .ok (.iload_n 1, 1) := dk_27 (dk_at dksJ7_copyOf_0 1 rfl rfl)
theorem iJ7_copyOf_1 {d : Nat} {r S : List MV} {M : MH} {Q : Out → MH → Prop} {w0 : MV} {z : Int} (k : MW mJ7_copyOf d 2 (w0 :: vi z :: r) (vi z :: S) M Q) : MW mJ7_copyOf d 1 (w0 :: vi z :: r) S M Q := mw_iload_n ⟨dJ7_copyOf_1, rfl⟩ rfl k
theorem dJ7_copyOf_3 : decode cJ7_copyOf 3 = .ok (.invokevirtual 86, 3) := dk_182 0 86 (dk_at dksJ7_copyOf_0 3 rfl rfl)
theorem dJ7_copyOf_6 : decode cJ7_copyOf 6 = .ok (.invokestatic 300, 3) := dk_184 1 44 (dk_at dksJ7_copyOf_0 6 rfl rfl)
theorem iJ7_copyOf_6 {d : Nat} {L S : List MV} {M : MH} {Q : Out → MH → Prop} {v1 v2 v3 : MV} {P : Option Nat → MH → Prop} (hM : MCr mJ7_copyOf_2 d [v1, v2, v3] M P) (k : ∀ o M', P o M' → MW mJ7_copyOf (d + 1) 9 L (vr o :: S) M' Q) (h8 : Nat.ble (S.map mcat).sum 8 = true := by rfl) : MW mJ7_copyOf (d + 1) 6 L (v3 :: v2 :: v1 :: S) M Q := mw_callr (as := [v1, v2, v3]) (site_S (Y' := mJ7_copyOf_2) (n := 3) ⟨dJ7_copyOf_6, rfl⟩ (Or.inl q606) q607 q108 wJ7_copyOf_2 nJ7_copyOf_2 hJ7_copyOf_2 rfl) kJ7_copyOf_2 (Nat.le_of_ble_eq_true h8) hM k
theorem dJ7_copyOf_9 : decode cJ7_copyOf 9 = .ok (.areturn, 1) := dk_176 (dk_at dksJ7_copyOf_0 9 rfl rfl)
theorem iJ7_copyOf_9 {d : Nat} {L : List MV} {M : MH} {P : Option Nat → MH → Prop} {o : Option Nat} (hq : P o M) : MW mJ7_copyOf d 9 L [vr o] M (Rr P) := mw_retr ⟨dJ7_copyOf_9, rfl⟩ rfl (Or.inr ⟨_, rfl⟩) hq
/-! J7_copyOf_2 -/
theorem dJ7_copyOf_2 : decode cJ7_copyOf 2 = .ok (.aload_n 0, 1) := dk_42 (dk_at dksJ7_copyOf_0 2 rfl rfl)
def dkwJ7_copyOf_2_1 : List UInt8 := [78, 42, 3, 45, 3, 42, 190, 27, 184, 1, 48, 184, 0, 150, 45, 176]
abbrev dktJ7_copyOf_2_1 : List UInt8 := dkwJ7_copyOf_2_1 ++ []
def dkwJ7_copyOf_2_0 : List UInt8 := [44, 18, 110, 166, 0, 10, 27, 189, 0, 2, 167, 0, 14, 44, 182, 0, 90, 27, 184, 0, 95, 192, 0, 110]
abbrev dktJ7_copyOf_2_0 : List UInt8 := dkwJ7_copyOf_2_0 ++ dktJ7_copyOf_2_1
theorem dksJ7_copyOf_2_0 : cJ7_copyOf_2.data.toList.drop 0 = dktJ7_copyOf_2_0 := by decide +kernel
theorem dksJ7_copyOf_2_1 : cJ7_copyOf_2.data.toList.drop 24 = dktJ7_copyOf_2_1 := dk_seg dksJ7_copyOf_2_0 24 rfl rfl
theorem dJ7_copyOf_2_0 : decode cJ7_copyOf_2 0 = .ok (.aload_n 2, 1) := dk_44 (dk_at dksJ7_copyOf_2_0 0 rfl rfl)
theorem iJ7_copyOf_2_0 {d : Nat} {r S : List MV} {M : MH} {Q : Out → MH → Prop} {w0 w1 : MV} {o : Option Nat} (k : MW mJ7_copyOf_2 d 1 (w0 :: w1 :: vr o :: r) (vr o :: S) M Q) : MW mJ7_copyOf_2 d 0 (w0 :: w1 :: vr o :: r) S M Q := mw_aload_n ⟨dJ7_copyOf_2_0, rfl⟩ rfl k
theorem dJ7_copyOf_2_1 : decode cJ7_copyOf_2 1 = .ok (.ldc 110, 2) := dk_18 110 (dk_at dksJ7_copyOf_2_0 1 rfl rfl)
theorem dJ7_copyOf_2_3 : decode cJ7_copyOf_2 3 = .ok (.if_acmp .ne 10, 3) := dk_166 0 10 (dk_at dksJ7_copyOf_2_0 3 rfl rfl)
theorem dJ7_copyOf_2_6 : decode cJ7_copyOf_2 6 = .ok (.iload_n 1, 1) := dk_27 (dk_at dksJ7_copyOf_2_0 6 rfl rfl)
theorem iJ7_copyOf_2_6 {d : Nat} {r S : List MV} {M : MH} {Q : Out → MH → Prop} {w0 : MV} {z : Int} (k : MW mJ7_copyOf_2 d 7 (w0 :: vi z :: r) (vi z :: S) M Q) : MW mJ7_copyOf_2 d 6 (w0 :: vi z :: r) S M Q := mw_iload_n ⟨dJ7_copyOf_2_6, rfl⟩ rfl k
theorem dJ7_copyOf_2_7 : decode cJ7_copyOf_2 7 = .ok (.anewarray 2, 3) := dk_189 0 2 (dk_at dksJ7_copyOf_2_0 7 rfl rfl)
theorem iJ7_copyOf_2_7 {d : Nat} {L S : List MV} {M : MH} {Q : Out → MH → Prop} {n : Nat} {z : Int} (hi : z = (n : Int)) (hn : n ≤ 100000) (hcap : mhn M + 1 ≤ mNC) (hcas : mhs M + n ≤ mNS) (k : MW mJ7_copyOf_2 d 10 L (vp (mhn M) :: S) (wN M 104 n) Q) : MW mJ7_copyOf_2 d 7 L (vi z :: S) M Q := mw_anew (ak := 4) ⟨dJ7_copyOf_2_7, rfl⟩ (Or.inl ⟨rfl, rfl⟩) q611 hi hn hcap hcas k
theorem dJ7_copyOf_2_10 : decode cJ7_copyOf_2 10 = .ok (.goto 14, 3) := dk_167 0 14 (dk_at dksJ7_copyOf_2_0 10 rfl rfl)
theorem iJ7_copyOf_2_10 {d : Nat} {L S : List MV} {M : MH} {Q : Out → MH → Prop}  (k : MW mJ7_copyOf_2 d 24 (L) S M Q) : MW mJ7_copyOf_2 d 10 (L) S M Q := mw_goto ⟨dJ7_copyOf_2_10, rfl⟩ rfl k
theorem dJ7_copyOf_2_13 : decode cJ7_copyOf_2 13 = .ok (.aload_n 2, 1) := dk_44 (dk_at dksJ7_copyOf_2_0 13 rfl rfl)
theorem iJ7_copyOf_2_13 {d : Nat} {r S : List MV} {M : MH} {Q : Out → MH → Prop} {w0 w1 : MV} {o : Option Nat} (k : MW mJ7_copyOf_2 d 14 (w0 :: w1 :: vr o :: r) (vr o :: S) M Q) : MW mJ7_copyOf_2 d 13 (w0 :: w1 :: vr o :: r) S M Q := mw_aload_n ⟨dJ7_copyOf_2_13, rfl⟩ rfl k
theorem dJ7_copyOf_2_14 : decode cJ7_copyOf_2 14 = .ok (.invokevirtual 90, 3) := dk_182 0 90 (dk_at dksJ7_copyOf_2_0 14 rfl rfl)
theorem dJ7_copyOf_2_17 : decode cJ7_copyOf_2 17 = .ok (.iload_n 1, 1) := dk_27 (dk_at dksJ7_copyOf_2_0 17 rfl rfl)
theorem iJ7_copyOf_2_17 {d : Nat} {r S : List MV} {M : MH} {Q : Out → MH → Prop} {w0 : MV} {z : Int} (k : MW mJ7_copyOf_2 d 18 (w0 :: vi z :: r) (vi z :: S) M Q) : MW mJ7_copyOf_2 d 17 (w0 :: vi z :: r) S M Q := mw_iload_n ⟨dJ7_copyOf_2_17, rfl⟩ rfl k
theorem dJ7_copyOf_2_18 : decode cJ7_copyOf_2 18 = .ok (.invokestatic 95, 3) := dk_184 0 95 (dk_at dksJ7_copyOf_2_0 18 rfl rfl)
theorem dJ7_copyOf_2_21 : decode cJ7_copyOf_2 21 = .ok (.checkcast 110, 3) := dk_192 0 110 (dk_at dksJ7_copyOf_2_0 21 rfl rfl)
theorem iJ7_copyOf_2_21 {d : Nat} {L S : List MV} {M : MH} {Q : Out → MH → Prop} {a : Nat} (hC : ClsOf M a "[Ljava/lang/Object;") (k : MW mJ7_copyOf_2 d 24 L (vp a :: S) M Q) : MW mJ7_copyOf_2 d 21 L (vp a :: S) M Q := mw_castS ⟨dJ7_copyOf_2_21, rfl⟩ q609 hC k
theorem dJ7_copyOf_2_24 : decode cJ7_copyOf_2 24 = .ok (.astore_n 3, 1) := dk_78 (dk_at dksJ7_copyOf_2_1 0 rfl rfl)
theorem iJ7_copyOf_2_24 {d : Nat} {r S : List MV} {M : MH} {Q : Out → MH → Prop} {w0 w1 w2 : MV} {o : Option Nat} {v : MV} (k : MW mJ7_copyOf_2 d 25 (w0 :: w1 :: w2 :: vr o :: r) S M Q) (hok : okSt (w0 :: w1 :: w2 :: v :: r) 3 = true := by rfl) : MW mJ7_copyOf_2 d 24 (w0 :: w1 :: w2 :: v :: r) (vr o :: S) M Q := mw_astore_n (i := 3) ⟨dJ7_copyOf_2_24, rfl⟩ rfl (Nat.le_of_ble_eq_true rfl) hok k
theorem dJ7_copyOf_2_25 : decode cJ7_copyOf_2 25 = .ok (.aload_n 0, 1) := dk_42 (dk_at dksJ7_copyOf_2_1 1 rfl rfl)
theorem iJ7_copyOf_2_25 {d : Nat} {r S : List MV} {M : MH} {Q : Out → MH → Prop} {o : Option Nat} (k : MW mJ7_copyOf_2 d 26 (vr o :: r) (vr o :: S) M Q) : MW mJ7_copyOf_2 d 25 (vr o :: r) S M Q := mw_aload_n ⟨dJ7_copyOf_2_25, rfl⟩ rfl k
theorem dJ7_copyOf_2_26 : decode cJ7_copyOf_2 26 = .ok (.iconst 0, 1) := dk_3 (dk_at dksJ7_copyOf_2_1 2 rfl rfl)
theorem iJ7_copyOf_2_26 {d : Nat} {L S : List MV} {M : MH} {Q : Out → MH → Prop}  (k : MW mJ7_copyOf_2 d 27 (L) (vi 0 :: S) M Q) : MW mJ7_copyOf_2 d 26 (L) S M Q := mw_iconst ⟨dJ7_copyOf_2_26, rfl⟩ k
theorem dJ7_copyOf_2_27 : decode cJ7_copyOf_2 27 = .ok (.aload_n 3, 1) := dk_45 (dk_at dksJ7_copyOf_2_1 3 rfl rfl)
theorem iJ7_copyOf_2_27 {d : Nat} {r S : List MV} {M : MH} {Q : Out → MH → Prop} {w0 w1 w2 : MV} {o : Option Nat} (k : MW mJ7_copyOf_2 d 28 (w0 :: w1 :: w2 :: vr o :: r) (vr o :: S) M Q) : MW mJ7_copyOf_2 d 27 (w0 :: w1 :: w2 :: vr o :: r) S M Q := mw_aload_n ⟨dJ7_copyOf_2_27, rfl⟩ rfl k
theorem dJ7_copyOf_2_28 : decode cJ7_copyOf_2 28 = .ok (.iconst 0, 1) := dk_3 (dk_at dksJ7_copyOf_2_1 4 rfl rfl)
theorem iJ7_copyOf_2_28 {d : Nat} {L S : List MV} {M : MH} {Q : Out → MH → Prop}  (k : MW mJ7_copyOf_2 d 29 (L) (vi 0 :: S) M Q) : MW mJ7_copyOf_2 d 28 (L) S M Q := mw_iconst ⟨dJ7_copyOf_2_28, rfl⟩ k
theorem dJ7_copyOf_2_29 : decode cJ7_copyOf_2 29 = .ok (.aload_n 0, 1) := dk_42 (dk_at dksJ7_copyOf_2_1 5 rfl rfl)
theorem iJ7_copyOf_2_29 {d : Nat} {r S : List MV} {M : MH} {Q : Out → MH → Prop} {o : Option Nat} (k : MW mJ7_copyOf_2 d 30 (vr o :: r) (vr o :: S) M Q) : MW mJ7_copyOf_2 d 29 (vr o :: r) S M Q := mw_aload_n ⟨dJ7_copyOf_2_29, rfl⟩ rfl k
theorem dJ7_copyOf_2_30 : decode cJ7_copyOf_2 30 = .ok (.arraylength, 1) := dk_190 (dk_at dksJ7_copyOf_2_1 6 rfl rfl)
theorem iJ7_copyOf_2_30 {d : Nat} {L S : List MV} {M : MH} {Q : Out → MH → Prop} {a n ak : Nat} (hs : msh M a = (100 + ak, n)) (k : MW mJ7_copyOf_2 d 31 L (vi n :: S) M Q) : MW mJ7_copyOf_2 d 30 L (vp a :: S) M Q := mw_alen ⟨dJ7_copyOf_2_30, rfl⟩ hs k
theorem iJ7_copyOf_2_30E {d : Nat} {L S : List MV} {M : MH} {Q : Out → MH → Prop} (k : MW mJ7_copyOf_2 d 31 L (vi 0 :: S) M Q) : MW mJ7_copyOf_2 d 30 L (vp 0 :: S) M Q := mw_alen0 ⟨dJ7_copyOf_2_30, rfl⟩ k
theorem dJ7_copyOf_2_31 : decode cJ7_copyOf_2 31 = .ok (.iload_n 1, 1) := dk_27 (dk_at dksJ7_copyOf_2_1 7 rfl rfl)
theorem iJ7_copyOf_2_31 {d : Nat} {r S : List MV} {M : MH} {Q : Out → MH → Prop} {w0 : MV} {z : Int} (k : MW mJ7_copyOf_2 d 32 (w0 :: vi z :: r) (vi z :: S) M Q) : MW mJ7_copyOf_2 d 31 (w0 :: vi z :: r) S M Q := mw_iload_n ⟨dJ7_copyOf_2_31, rfl⟩ rfl k
theorem dJ7_copyOf_2_32 : decode cJ7_copyOf_2 32 = .ok (.invokestatic 304, 3) := dk_184 1 48 (dk_at dksJ7_copyOf_2_1 8 rfl rfl)
theorem iJ7_copyOf_2_32 {d : Nat} {L S : List MV} {M : MH} {Q : Out → MH → Prop} {v1 v2 : MV} {P : Int → MH → Prop} (hM : MCi mJ6_min d [v1, v2] M P) (k : ∀ z M', P z M' → MW mJ7_copyOf_2 (d + 1) 35 L (vi z :: S) M' Q) (h8 : Nat.ble (S.map mcat).sum 8 = true := by rfl) : MW mJ7_copyOf_2 (d + 1) 32 L (v2 :: v1 :: S) M Q := mw_calli (as := [v1, v2]) (site_S (Y' := mJ6_min) (n := 2) ⟨dJ7_copyOf_2_32, rfl⟩ (Or.inl q612) q613 q107 wJ6_min nJ6_min hJ6_min rfl) kJ6_min (Nat.le_of_ble_eq_true h8) hM k
theorem dJ7_copyOf_2_35 : decode cJ7_copyOf_2 35 = .ok (.invokestatic 150, 3) := dk_184 0 150 (dk_at dksJ7_copyOf_2_1 11 rfl rfl)
theorem dJ7_copyOf_2_38 : decode cJ7_copyOf_2 38 = .ok (.aload_n 3, 1) := dk_45 (dk_at dksJ7_copyOf_2_1 14 rfl rfl)
theorem iJ7_copyOf_2_38 {d : Nat} {r S : List MV} {M : MH} {Q : Out → MH → Prop} {w0 w1 w2 : MV} {o : Option Nat} (k : MW mJ7_copyOf_2 d 39 (w0 :: w1 :: w2 :: vr o :: r) (vr o :: S) M Q) : MW mJ7_copyOf_2 d 38 (w0 :: w1 :: w2 :: vr o :: r) S M Q := mw_aload_n ⟨dJ7_copyOf_2_38, rfl⟩ rfl k
theorem dJ7_copyOf_2_39 : decode cJ7_copyOf_2 39 = .ok (.areturn, 1) := dk_176 (dk_at dksJ7_copyOf_2_1 15 rfl rfl)
theorem iJ7_copyOf_2_39 {d : Nat} {L : List MV} {M : MH} {P : Option Nat → MH → Prop} {o : Option Nat} (hq : P o M) : MW mJ7_copyOf_2 d 39 L [vr o] M (Rr P) := mw_retr ⟨dJ7_copyOf_2_39, rfl⟩ rfl (Or.inr ⟨_, rfl⟩) hq
/-! J8_checkIndex -/
def dkwJ8_checkIndex_0 : List UInt8 := [26, 27, 1, 184, 0, 105, 172]
abbrev dktJ8_checkIndex_0 : List UInt8 := dkwJ8_checkIndex_0 ++ []
theorem dksJ8_checkIndex_0 : cJ8_checkIndex.data.toList.drop 0 = dktJ8_checkIndex_0 := by decide +kernel
theorem dJ8_checkIndex_0 : decode cJ8_checkIndex 0 = .ok (.iload_n 0, 1) := dk_26 (dk_at dksJ8_checkIndex_0 0 rfl rfl)
theorem iJ8_checkIndex_0 {d : Nat} {r S : List MV} {M : MH} {Q : Out → MH → Prop} {z : Int} (k : MW mJ8_checkIndex d 1 (vi z :: r) (vi z :: S) M Q) : MW mJ8_checkIndex d 0 (vi z :: r) S M Q := mw_iload_n ⟨dJ8_checkIndex_0, rfl⟩ rfl k
theorem dJ8_checkIndex_1 : decode cJ8_checkIndex 1 = .ok (.iload_n 1, 1) := dk_27 (dk_at dksJ8_checkIndex_0 1 rfl rfl)
theorem iJ8_checkIndex_1 {d : Nat} {r S : List MV} {M : MH} {Q : Out → MH → Prop} {w0 : MV} {z : Int} (k : MW mJ8_checkIndex d 2 (w0 :: vi z :: r) (vi z :: S) M Q) : MW mJ8_checkIndex d 1 (w0 :: vi z :: r) S M Q := mw_iload_n ⟨dJ8_checkIndex_1, rfl⟩ rfl k
theorem dJ8_checkIndex_2 : decode cJ8_checkIndex 2 = .ok (.aconst_null, 1) := dk_1 (dk_at dksJ8_checkIndex_0 2 rfl rfl)
theorem iJ8_checkIndex_2 {d : Nat} {L S : List MV} {M : MH} {Q : Out → MH → Prop}  (k : MW mJ8_checkIndex d 3 (L) (vr none :: S) M Q) : MW mJ8_checkIndex d 2 (L) S M Q := mw_null ⟨dJ8_checkIndex_2, rfl⟩ k
theorem dJ8_checkIndex_3 : decode cJ8_checkIndex 3 = .ok (.invokestatic 105, 3) := dk_184 0 105 (dk_at dksJ8_checkIndex_0 3 rfl rfl)
theorem iJ8_checkIndex_3 {d : Nat} {L S : List MV} {M : MH} {Q : Out → MH → Prop} {v1 v2 v3 : MV} {P : Int → MH → Prop} (hM : MCi mJ9_checkIndex d [v1, v2, v3] M P) (k : ∀ z M', P z M' → MW mJ8_checkIndex (d + 1) 6 L (vi z :: S) M' Q) (h8 : Nat.ble (S.map mcat).sum 8 = true := by rfl) : MW mJ8_checkIndex (d + 1) 3 L (v3 :: v2 :: v1 :: S) M Q := mw_calli (as := [v1, v2, v3]) (site_S (Y' := mJ9_checkIndex) (n := 3) ⟨dJ8_checkIndex_3, rfl⟩ (Or.inl q664) q665 q111 wJ9_checkIndex nJ9_checkIndex hJ9_checkIndex rfl) kJ9_checkIndex (Nat.le_of_ble_eq_true h8) hM k
theorem dJ8_checkIndex_6 : decode cJ8_checkIndex 6 = .ok (.ireturn, 1) := dk_172 (dk_at dksJ8_checkIndex_0 6 rfl rfl)
theorem iJ8_checkIndex_6 {d : Nat} {L : List MV} {M : MH} {P : Int → MH → Prop} {z : Int} (hq : P z M) : MW mJ8_checkIndex d 6 L [vi z] M (Ri P) := mw_reti ⟨dJ8_checkIndex_6, rfl⟩ rfl hq
/-! J9_checkIndex -/
def dkwJ9_checkIndex_0 : List UInt8 := [26, 155, 0, 8, 26, 27, 161, 0, 10, 44, 26, 27, 184, 0, 95, 191, 26, 172]
abbrev dktJ9_checkIndex_0 : List UInt8 := dkwJ9_checkIndex_0 ++ []
theorem dksJ9_checkIndex_0 : cJ9_checkIndex.data.toList.drop 0 = dktJ9_checkIndex_0 := by decide +kernel
theorem dJ9_checkIndex_0 : decode cJ9_checkIndex 0 = .ok (.iload_n 0, 1) := dk_26 (dk_at dksJ9_checkIndex_0 0 rfl rfl)
theorem iJ9_checkIndex_0 {d : Nat} {r S : List MV} {M : MH} {Q : Out → MH → Prop} {z : Int} (k : MW mJ9_checkIndex d 1 (vi z :: r) (vi z :: S) M Q) : MW mJ9_checkIndex d 0 (vi z :: r) S M Q := mw_iload_n ⟨dJ9_checkIndex_0, rfl⟩ rfl k
theorem dJ9_checkIndex_1 : decode cJ9_checkIndex 1 = .ok (.ifCond .lt 8, 3) := dk_155 0 8 (dk_at dksJ9_checkIndex_0 1 rfl rfl)
theorem iJ9_checkIndex_1 {d : Nat} {L S : List MV} {M : MH} {Q : Out → MH → Prop} {a : Int} (ha : inR a) (kt : a < 0 → MW mJ9_checkIndex d 9 L S M Q) (kf : ¬ a < 0 → MW mJ9_checkIndex d 4 L S M Q) : MW mJ9_checkIndex d 1 L (vi a :: S) M Q := mw_if_lt ⟨dJ9_checkIndex_1, rfl⟩ rfl ha kt kf
theorem dJ9_checkIndex_4 : decode cJ9_checkIndex 4 = .ok (.iload_n 0, 1) := dk_26 (dk_at dksJ9_checkIndex_0 4 rfl rfl)
theorem iJ9_checkIndex_4 {d : Nat} {r S : List MV} {M : MH} {Q : Out → MH → Prop} {z : Int} (k : MW mJ9_checkIndex d 5 (vi z :: r) (vi z :: S) M Q) : MW mJ9_checkIndex d 4 (vi z :: r) S M Q := mw_iload_n ⟨dJ9_checkIndex_4, rfl⟩ rfl k
theorem dJ9_checkIndex_5 : decode cJ9_checkIndex 5 = .ok (.iload_n 1, 1) := dk_27 (dk_at dksJ9_checkIndex_0 5 rfl rfl)
theorem iJ9_checkIndex_5 {d : Nat} {r S : List MV} {M : MH} {Q : Out → MH → Prop} {w0 : MV} {z : Int} (k : MW mJ9_checkIndex d 6 (w0 :: vi z :: r) (vi z :: S) M Q) : MW mJ9_checkIndex d 5 (w0 :: vi z :: r) S M Q := mw_iload_n ⟨dJ9_checkIndex_5, rfl⟩ rfl k
theorem dJ9_checkIndex_6 : decode cJ9_checkIndex 6 = .ok (.if_icmp .lt 10, 3) := dk_161 0 10 (dk_at dksJ9_checkIndex_0 6 rfl rfl)
theorem iJ9_checkIndex_6 {d : Nat} {L S : List MV} {M : MH} {Q : Out → MH → Prop} {a b : Int} (ha : inR a) (hb : inR b) (kt : a < b → MW mJ9_checkIndex d 16 L S M Q) (kf : ¬ a < b → MW mJ9_checkIndex d 9 L S M Q) : MW mJ9_checkIndex d 6 L (vi b :: vi a :: S) M Q := mw_icmp_lt ⟨dJ9_checkIndex_6, rfl⟩ rfl ha hb kt kf
theorem dJ9_checkIndex_9 : decode cJ9_checkIndex 9 = .ok (.aload_n 2, 1) := dk_44 (dk_at dksJ9_checkIndex_0 9 rfl rfl)
theorem iJ9_checkIndex_9 {d : Nat} {r S : List MV} {M : MH} {Q : Out → MH → Prop} {w0 w1 : MV} {o : Option Nat} (k : MW mJ9_checkIndex d 10 (w0 :: w1 :: vr o :: r) (vr o :: S) M Q) : MW mJ9_checkIndex d 9 (w0 :: w1 :: vr o :: r) S M Q := mw_aload_n ⟨dJ9_checkIndex_9, rfl⟩ rfl k
theorem dJ9_checkIndex_10 : decode cJ9_checkIndex 10 = .ok (.iload_n 0, 1) := dk_26 (dk_at dksJ9_checkIndex_0 10 rfl rfl)
theorem iJ9_checkIndex_10 {d : Nat} {r S : List MV} {M : MH} {Q : Out → MH → Prop} {z : Int} (k : MW mJ9_checkIndex d 11 (vi z :: r) (vi z :: S) M Q) : MW mJ9_checkIndex d 10 (vi z :: r) S M Q := mw_iload_n ⟨dJ9_checkIndex_10, rfl⟩ rfl k
theorem dJ9_checkIndex_11 : decode cJ9_checkIndex 11 = .ok (.iload_n 1, 1) := dk_27 (dk_at dksJ9_checkIndex_0 11 rfl rfl)
theorem iJ9_checkIndex_11 {d : Nat} {r S : List MV} {M : MH} {Q : Out → MH → Prop} {w0 : MV} {z : Int} (k : MW mJ9_checkIndex d 12 (w0 :: vi z :: r) (vi z :: S) M Q) : MW mJ9_checkIndex d 11 (w0 :: vi z :: r) S M Q := mw_iload_n ⟨dJ9_checkIndex_11, rfl⟩ rfl k
theorem dJ9_checkIndex_12 : decode cJ9_checkIndex 12 = .ok (.invokestatic 95, 3) := dk_184 0 95 (dk_at dksJ9_checkIndex_0 12 rfl rfl)
theorem dJ9_checkIndex_15 : decode cJ9_checkIndex 15 = .ok (.athrow, 1) := dk_191 (dk_at dksJ9_checkIndex_0 15 rfl rfl)
theorem dJ9_checkIndex_16 : decode cJ9_checkIndex 16 = .ok (.iload_n 0, 1) := dk_26 (dk_at dksJ9_checkIndex_0 16 rfl rfl)
theorem iJ9_checkIndex_16 {d : Nat} {r S : List MV} {M : MH} {Q : Out → MH → Prop} {z : Int} (k : MW mJ9_checkIndex d 17 (vi z :: r) (vi z :: S) M Q) : MW mJ9_checkIndex d 16 (vi z :: r) S M Q := mw_iload_n ⟨dJ9_checkIndex_16, rfl⟩ rfl k
theorem dJ9_checkIndex_17 : decode cJ9_checkIndex 17 = .ok (.ireturn, 1) := dk_172 (dk_at dksJ9_checkIndex_0 17 rfl rfl)
theorem iJ9_checkIndex_17 {d : Nat} {L : List MV} {M : MH} {P : Int → MH → Prop} {z : Int} (hq : P z M) : MW mJ9_checkIndex d 17 L [vi z] M (Ri P) := mw_reti ⟨dJ9_checkIndex_17, rfl⟩ rfl hq
/-! J10_bitCount -/
def dkwJ10_bitCount_2 : List UInt8 := [26, 16, 63, 126, 172]
abbrev dktJ10_bitCount_2 : List UInt8 := dkwJ10_bitCount_2 ++ []
def dkwJ10_bitCount_1 : List UInt8 := [26, 26, 7, 124, 96, 19, 1, 11, 126, 59, 26, 26, 16, 8, 124, 96, 59, 26, 26, 16, 16, 124, 96, 59]
abbrev dktJ10_bitCount_1 : List UInt8 := dkwJ10_bitCount_1 ++ dktJ10_bitCount_2
def dkwJ10_bitCount_0 : List UInt8 := [26, 26, 4, 124, 19, 1, 9, 126, 100, 59, 26, 19, 1, 10, 126, 26, 5, 124, 19, 1, 10, 126, 96, 59]
abbrev dktJ10_bitCount_0 : List UInt8 := dkwJ10_bitCount_0 ++ dktJ10_bitCount_1
theorem dksJ10_bitCount_0 : cJ10_bitCount.data.toList.drop 0 = dktJ10_bitCount_0 := by decide +kernel
theorem dksJ10_bitCount_1 : cJ10_bitCount.data.toList.drop 24 = dktJ10_bitCount_1 := dk_seg dksJ10_bitCount_0 24 rfl rfl
theorem dksJ10_bitCount_2 : cJ10_bitCount.data.toList.drop 48 = dktJ10_bitCount_2 := dk_seg dksJ10_bitCount_1 24 rfl rfl
theorem dJ10_bitCount_0 : decode cJ10_bitCount 0 = .ok (.iload_n 0, 1) := dk_26 (dk_at dksJ10_bitCount_0 0 rfl rfl)
theorem iJ10_bitCount_0 {d : Nat} {r S : List MV} {M : MH} {Q : Out → MH → Prop} {z : Int} (k : MW mJ10_bitCount d 1 (vi z :: r) (vi z :: S) M Q) : MW mJ10_bitCount d 0 (vi z :: r) S M Q := mw_iload_n ⟨dJ10_bitCount_0, rfl⟩ rfl k
theorem dJ10_bitCount_1 : decode cJ10_bitCount 1 = .ok (.iload_n 0, 1) := dk_26 (dk_at dksJ10_bitCount_0 1 rfl rfl)
theorem iJ10_bitCount_1 {d : Nat} {r S : List MV} {M : MH} {Q : Out → MH → Prop} {z : Int} (k : MW mJ10_bitCount d 2 (vi z :: r) (vi z :: S) M Q) : MW mJ10_bitCount d 1 (vi z :: r) S M Q := mw_iload_n ⟨dJ10_bitCount_1, rfl⟩ rfl k
theorem dJ10_bitCount_2 : decode cJ10_bitCount 2 = .ok (.iconst 1, 1) := dk_4 (dk_at dksJ10_bitCount_0 2 rfl rfl)
theorem iJ10_bitCount_2 {d : Nat} {L S : List MV} {M : MH} {Q : Out → MH → Prop}  (k : MW mJ10_bitCount d 3 (L) (vi 1 :: S) M Q) : MW mJ10_bitCount d 2 (L) S M Q := mw_iconst ⟨dJ10_bitCount_2, rfl⟩ k
theorem dJ10_bitCount_3 : decode cJ10_bitCount 3 = .ok (.iushr, 1) := dk_124 (dk_at dksJ10_bitCount_0 3 rfl rfl)
theorem iJ10_bitCount_3 {d : Nat} {L S : List MV} {M : MH} {Q : Out → MH → Prop} {a b : Int} (k : MW mJ10_bitCount d 4 (L) (vi (bushr a b) :: S) M Q) : MW mJ10_bitCount d 3 (L) (vi b :: vi a :: S) M Q := mw_iushr ⟨dJ10_bitCount_3, rfl⟩ k
theorem dJ10_bitCount_4 : decode cJ10_bitCount 4 = .ok (.ldc_w 265, 3) := dk_19 1 9 (dk_at dksJ10_bitCount_0 4 rfl rfl)
theorem iJ10_bitCount_4 {d : Nat} {L S : List MV} {M : MH} {Q : Out → MH → Prop}  (k : MW mJ10_bitCount d 7 (L) (vi 1431655765 :: S) M Q) : MW mJ10_bitCount d 4 (L) S M Q := mw_ldcw (n := 1431655765) ⟨dJ10_bitCount_4, rfl⟩ (by have h := q812; rw [show (1431655765 : Int32) = Int32.ofInt (1431655765) from by decide] at h; exact h) k
theorem dJ10_bitCount_7 : decode cJ10_bitCount 7 = .ok (.iand, 1) := dk_126 (dk_at dksJ10_bitCount_0 7 rfl rfl)
theorem iJ10_bitCount_7 {d : Nat} {L S : List MV} {M : MH} {Q : Out → MH → Prop} {a b : Int} (k : MW mJ10_bitCount d 8 (L) (vi (band a b) :: S) M Q) : MW mJ10_bitCount d 7 (L) (vi b :: vi a :: S) M Q := mw_iand ⟨dJ10_bitCount_7, rfl⟩ k
theorem dJ10_bitCount_8 : decode cJ10_bitCount 8 = .ok (.isub, 1) := dk_100 (dk_at dksJ10_bitCount_0 8 rfl rfl)
theorem iJ10_bitCount_8 {d : Nat} {L S : List MV} {M : MH} {Q : Out → MH → Prop} {a b : Int} (k : MW mJ10_bitCount d 9 (L) (vi (a - b) :: S) M Q) : MW mJ10_bitCount d 8 (L) (vi b :: vi a :: S) M Q := mw_isub ⟨dJ10_bitCount_8, rfl⟩ k
theorem dJ10_bitCount_9 : decode cJ10_bitCount 9 = .ok (.istore_n 0, 1) := dk_59 (dk_at dksJ10_bitCount_0 9 rfl rfl)
theorem iJ10_bitCount_9 {d : Nat} {r S : List MV} {M : MH} {Q : Out → MH → Prop} {z : Int} {v : MV} (k : MW mJ10_bitCount d 10 (vi z :: r) S M Q) (hok : okSt (v :: r) 0 = true := by rfl) : MW mJ10_bitCount d 9 (v :: r) (vi z :: S) M Q := mw_istore_n (i := 0) ⟨dJ10_bitCount_9, rfl⟩ rfl (Nat.le_of_ble_eq_true rfl) hok k
theorem dJ10_bitCount_10 : decode cJ10_bitCount 10 = .ok (.iload_n 0, 1) := dk_26 (dk_at dksJ10_bitCount_0 10 rfl rfl)
theorem iJ10_bitCount_10 {d : Nat} {r S : List MV} {M : MH} {Q : Out → MH → Prop} {z : Int} (k : MW mJ10_bitCount d 11 (vi z :: r) (vi z :: S) M Q) : MW mJ10_bitCount d 10 (vi z :: r) S M Q := mw_iload_n ⟨dJ10_bitCount_10, rfl⟩ rfl k
theorem dJ10_bitCount_11 : decode cJ10_bitCount 11 = .ok (.ldc_w 266, 3) := dk_19 1 10 (dk_at dksJ10_bitCount_0 11 rfl rfl)
theorem iJ10_bitCount_11 {d : Nat} {L S : List MV} {M : MH} {Q : Out → MH → Prop}  (k : MW mJ10_bitCount d 14 (L) (vi 858993459 :: S) M Q) : MW mJ10_bitCount d 11 (L) S M Q := mw_ldcw (n := 858993459) ⟨dJ10_bitCount_11, rfl⟩ (by have h := q813; rw [show (858993459 : Int32) = Int32.ofInt (858993459) from by decide] at h; exact h) k
theorem dJ10_bitCount_14 : decode cJ10_bitCount 14 = .ok (.iand, 1) := dk_126 (dk_at dksJ10_bitCount_0 14 rfl rfl)
theorem iJ10_bitCount_14 {d : Nat} {L S : List MV} {M : MH} {Q : Out → MH → Prop} {a b : Int} (k : MW mJ10_bitCount d 15 (L) (vi (band a b) :: S) M Q) : MW mJ10_bitCount d 14 (L) (vi b :: vi a :: S) M Q := mw_iand ⟨dJ10_bitCount_14, rfl⟩ k
theorem dJ10_bitCount_15 : decode cJ10_bitCount 15 = .ok (.iload_n 0, 1) := dk_26 (dk_at dksJ10_bitCount_0 15 rfl rfl)
theorem iJ10_bitCount_15 {d : Nat} {r S : List MV} {M : MH} {Q : Out → MH → Prop} {z : Int} (k : MW mJ10_bitCount d 16 (vi z :: r) (vi z :: S) M Q) : MW mJ10_bitCount d 15 (vi z :: r) S M Q := mw_iload_n ⟨dJ10_bitCount_15, rfl⟩ rfl k
theorem dJ10_bitCount_16 : decode cJ10_bitCount 16 = .ok (.iconst 2, 1) := dk_5 (dk_at dksJ10_bitCount_0 16 rfl rfl)
theorem iJ10_bitCount_16 {d : Nat} {L S : List MV} {M : MH} {Q : Out → MH → Prop}  (k : MW mJ10_bitCount d 17 (L) (vi 2 :: S) M Q) : MW mJ10_bitCount d 16 (L) S M Q := mw_iconst ⟨dJ10_bitCount_16, rfl⟩ k
theorem dJ10_bitCount_17 : decode cJ10_bitCount 17 = .ok (.iushr, 1) := dk_124 (dk_at dksJ10_bitCount_0 17 rfl rfl)
theorem iJ10_bitCount_17 {d : Nat} {L S : List MV} {M : MH} {Q : Out → MH → Prop} {a b : Int} (k : MW mJ10_bitCount d 18 (L) (vi (bushr a b) :: S) M Q) : MW mJ10_bitCount d 17 (L) (vi b :: vi a :: S) M Q := mw_iushr ⟨dJ10_bitCount_17, rfl⟩ k
theorem dJ10_bitCount_18 : decode cJ10_bitCount 18 = .ok (.ldc_w 266, 3) := dk_19 1 10 (dk_at dksJ10_bitCount_0 18 rfl rfl)
theorem iJ10_bitCount_18 {d : Nat} {L S : List MV} {M : MH} {Q : Out → MH → Prop}  (k : MW mJ10_bitCount d 21 (L) (vi 858993459 :: S) M Q) : MW mJ10_bitCount d 18 (L) S M Q := mw_ldcw (n := 858993459) ⟨dJ10_bitCount_18, rfl⟩ (by have h := q813; rw [show (858993459 : Int32) = Int32.ofInt (858993459) from by decide] at h; exact h) k
theorem dJ10_bitCount_21 : decode cJ10_bitCount 21 = .ok (.iand, 1) := dk_126 (dk_at dksJ10_bitCount_0 21 rfl rfl)
theorem iJ10_bitCount_21 {d : Nat} {L S : List MV} {M : MH} {Q : Out → MH → Prop} {a b : Int} (k : MW mJ10_bitCount d 22 (L) (vi (band a b) :: S) M Q) : MW mJ10_bitCount d 21 (L) (vi b :: vi a :: S) M Q := mw_iand ⟨dJ10_bitCount_21, rfl⟩ k
theorem dJ10_bitCount_22 : decode cJ10_bitCount 22 = .ok (.iadd, 1) := dk_96 (dk_at dksJ10_bitCount_0 22 rfl rfl)
theorem iJ10_bitCount_22 {d : Nat} {L S : List MV} {M : MH} {Q : Out → MH → Prop} {a b : Int} (k : MW mJ10_bitCount d 23 (L) (vi (a + b) :: S) M Q) : MW mJ10_bitCount d 22 (L) (vi b :: vi a :: S) M Q := mw_iadd ⟨dJ10_bitCount_22, rfl⟩ k
theorem dJ10_bitCount_23 : decode cJ10_bitCount 23 = .ok (.istore_n 0, 1) := dk_59 (dk_at dksJ10_bitCount_0 23 rfl rfl)
theorem iJ10_bitCount_23 {d : Nat} {r S : List MV} {M : MH} {Q : Out → MH → Prop} {z : Int} {v : MV} (k : MW mJ10_bitCount d 24 (vi z :: r) S M Q) (hok : okSt (v :: r) 0 = true := by rfl) : MW mJ10_bitCount d 23 (v :: r) (vi z :: S) M Q := mw_istore_n (i := 0) ⟨dJ10_bitCount_23, rfl⟩ rfl (Nat.le_of_ble_eq_true rfl) hok k
theorem dJ10_bitCount_24 : decode cJ10_bitCount 24 = .ok (.iload_n 0, 1) := dk_26 (dk_at dksJ10_bitCount_1 0 rfl rfl)
theorem iJ10_bitCount_24 {d : Nat} {r S : List MV} {M : MH} {Q : Out → MH → Prop} {z : Int} (k : MW mJ10_bitCount d 25 (vi z :: r) (vi z :: S) M Q) : MW mJ10_bitCount d 24 (vi z :: r) S M Q := mw_iload_n ⟨dJ10_bitCount_24, rfl⟩ rfl k
theorem dJ10_bitCount_25 : decode cJ10_bitCount 25 = .ok (.iload_n 0, 1) := dk_26 (dk_at dksJ10_bitCount_1 1 rfl rfl)
theorem iJ10_bitCount_25 {d : Nat} {r S : List MV} {M : MH} {Q : Out → MH → Prop} {z : Int} (k : MW mJ10_bitCount d 26 (vi z :: r) (vi z :: S) M Q) : MW mJ10_bitCount d 25 (vi z :: r) S M Q := mw_iload_n ⟨dJ10_bitCount_25, rfl⟩ rfl k
theorem dJ10_bitCount_26 : decode cJ10_bitCount 26 = .ok (.iconst 4, 1) := dk_7 (dk_at dksJ10_bitCount_1 2 rfl rfl)
theorem iJ10_bitCount_26 {d : Nat} {L S : List MV} {M : MH} {Q : Out → MH → Prop}  (k : MW mJ10_bitCount d 27 (L) (vi 4 :: S) M Q) : MW mJ10_bitCount d 26 (L) S M Q := mw_iconst ⟨dJ10_bitCount_26, rfl⟩ k
theorem dJ10_bitCount_27 : decode cJ10_bitCount 27 = .ok (.iushr, 1) := dk_124 (dk_at dksJ10_bitCount_1 3 rfl rfl)
theorem iJ10_bitCount_27 {d : Nat} {L S : List MV} {M : MH} {Q : Out → MH → Prop} {a b : Int} (k : MW mJ10_bitCount d 28 (L) (vi (bushr a b) :: S) M Q) : MW mJ10_bitCount d 27 (L) (vi b :: vi a :: S) M Q := mw_iushr ⟨dJ10_bitCount_27, rfl⟩ k
theorem dJ10_bitCount_28 : decode cJ10_bitCount 28 = .ok (.iadd, 1) := dk_96 (dk_at dksJ10_bitCount_1 4 rfl rfl)
theorem iJ10_bitCount_28 {d : Nat} {L S : List MV} {M : MH} {Q : Out → MH → Prop} {a b : Int} (k : MW mJ10_bitCount d 29 (L) (vi (a + b) :: S) M Q) : MW mJ10_bitCount d 28 (L) (vi b :: vi a :: S) M Q := mw_iadd ⟨dJ10_bitCount_28, rfl⟩ k
theorem dJ10_bitCount_29 : decode cJ10_bitCount 29 = .ok (.ldc_w 267, 3) := dk_19 1 11 (dk_at dksJ10_bitCount_1 5 rfl rfl)
theorem iJ10_bitCount_29 {d : Nat} {L S : List MV} {M : MH} {Q : Out → MH → Prop}  (k : MW mJ10_bitCount d 32 (L) (vi 252645135 :: S) M Q) : MW mJ10_bitCount d 29 (L) S M Q := mw_ldcw (n := 252645135) ⟨dJ10_bitCount_29, rfl⟩ (by have h := q814; rw [show (252645135 : Int32) = Int32.ofInt (252645135) from by decide] at h; exact h) k
theorem dJ10_bitCount_32 : decode cJ10_bitCount 32 = .ok (.iand, 1) := dk_126 (dk_at dksJ10_bitCount_1 8 rfl rfl)
theorem iJ10_bitCount_32 {d : Nat} {L S : List MV} {M : MH} {Q : Out → MH → Prop} {a b : Int} (k : MW mJ10_bitCount d 33 (L) (vi (band a b) :: S) M Q) : MW mJ10_bitCount d 32 (L) (vi b :: vi a :: S) M Q := mw_iand ⟨dJ10_bitCount_32, rfl⟩ k
theorem dJ10_bitCount_33 : decode cJ10_bitCount 33 = .ok (.istore_n 0, 1) := dk_59 (dk_at dksJ10_bitCount_1 9 rfl rfl)
theorem iJ10_bitCount_33 {d : Nat} {r S : List MV} {M : MH} {Q : Out → MH → Prop} {z : Int} {v : MV} (k : MW mJ10_bitCount d 34 (vi z :: r) S M Q) (hok : okSt (v :: r) 0 = true := by rfl) : MW mJ10_bitCount d 33 (v :: r) (vi z :: S) M Q := mw_istore_n (i := 0) ⟨dJ10_bitCount_33, rfl⟩ rfl (Nat.le_of_ble_eq_true rfl) hok k
theorem dJ10_bitCount_34 : decode cJ10_bitCount 34 = .ok (.iload_n 0, 1) := dk_26 (dk_at dksJ10_bitCount_1 10 rfl rfl)
theorem iJ10_bitCount_34 {d : Nat} {r S : List MV} {M : MH} {Q : Out → MH → Prop} {z : Int} (k : MW mJ10_bitCount d 35 (vi z :: r) (vi z :: S) M Q) : MW mJ10_bitCount d 34 (vi z :: r) S M Q := mw_iload_n ⟨dJ10_bitCount_34, rfl⟩ rfl k
theorem dJ10_bitCount_35 : decode cJ10_bitCount 35 = .ok (.iload_n 0, 1) := dk_26 (dk_at dksJ10_bitCount_1 11 rfl rfl)
theorem iJ10_bitCount_35 {d : Nat} {r S : List MV} {M : MH} {Q : Out → MH → Prop} {z : Int} (k : MW mJ10_bitCount d 36 (vi z :: r) (vi z :: S) M Q) : MW mJ10_bitCount d 35 (vi z :: r) S M Q := mw_iload_n ⟨dJ10_bitCount_35, rfl⟩ rfl k
theorem dJ10_bitCount_36 : decode cJ10_bitCount 36 = .ok (.bipush 8, 2) := dk_16 8 (dk_at dksJ10_bitCount_1 12 rfl rfl)
theorem iJ10_bitCount_36 {d : Nat} {L S : List MV} {M : MH} {Q : Out → MH → Prop}  (k : MW mJ10_bitCount d 38 (L) (vi 8 :: S) M Q) : MW mJ10_bitCount d 36 (L) S M Q := mw_bipush ⟨dJ10_bitCount_36, rfl⟩ (by decide) k
theorem dJ10_bitCount_38 : decode cJ10_bitCount 38 = .ok (.iushr, 1) := dk_124 (dk_at dksJ10_bitCount_1 14 rfl rfl)
theorem iJ10_bitCount_38 {d : Nat} {L S : List MV} {M : MH} {Q : Out → MH → Prop} {a b : Int} (k : MW mJ10_bitCount d 39 (L) (vi (bushr a b) :: S) M Q) : MW mJ10_bitCount d 38 (L) (vi b :: vi a :: S) M Q := mw_iushr ⟨dJ10_bitCount_38, rfl⟩ k
theorem dJ10_bitCount_39 : decode cJ10_bitCount 39 = .ok (.iadd, 1) := dk_96 (dk_at dksJ10_bitCount_1 15 rfl rfl)
theorem iJ10_bitCount_39 {d : Nat} {L S : List MV} {M : MH} {Q : Out → MH → Prop} {a b : Int} (k : MW mJ10_bitCount d 40 (L) (vi (a + b) :: S) M Q) : MW mJ10_bitCount d 39 (L) (vi b :: vi a :: S) M Q := mw_iadd ⟨dJ10_bitCount_39, rfl⟩ k
theorem dJ10_bitCount_40 : decode cJ10_bitCount 40 = .ok (.istore_n 0, 1) := dk_59 (dk_at dksJ10_bitCount_1 16 rfl rfl)
theorem iJ10_bitCount_40 {d : Nat} {r S : List MV} {M : MH} {Q : Out → MH → Prop} {z : Int} {v : MV} (k : MW mJ10_bitCount d 41 (vi z :: r) S M Q) (hok : okSt (v :: r) 0 = true := by rfl) : MW mJ10_bitCount d 40 (v :: r) (vi z :: S) M Q := mw_istore_n (i := 0) ⟨dJ10_bitCount_40, rfl⟩ rfl (Nat.le_of_ble_eq_true rfl) hok k
theorem dJ10_bitCount_41 : decode cJ10_bitCount 41 = .ok (.iload_n 0, 1) := dk_26 (dk_at dksJ10_bitCount_1 17 rfl rfl)
theorem iJ10_bitCount_41 {d : Nat} {r S : List MV} {M : MH} {Q : Out → MH → Prop} {z : Int} (k : MW mJ10_bitCount d 42 (vi z :: r) (vi z :: S) M Q) : MW mJ10_bitCount d 41 (vi z :: r) S M Q := mw_iload_n ⟨dJ10_bitCount_41, rfl⟩ rfl k
theorem dJ10_bitCount_42 : decode cJ10_bitCount 42 = .ok (.iload_n 0, 1) := dk_26 (dk_at dksJ10_bitCount_1 18 rfl rfl)
theorem iJ10_bitCount_42 {d : Nat} {r S : List MV} {M : MH} {Q : Out → MH → Prop} {z : Int} (k : MW mJ10_bitCount d 43 (vi z :: r) (vi z :: S) M Q) : MW mJ10_bitCount d 42 (vi z :: r) S M Q := mw_iload_n ⟨dJ10_bitCount_42, rfl⟩ rfl k
theorem dJ10_bitCount_43 : decode cJ10_bitCount 43 = .ok (.bipush 16, 2) := dk_16 16 (dk_at dksJ10_bitCount_1 19 rfl rfl)
theorem iJ10_bitCount_43 {d : Nat} {L S : List MV} {M : MH} {Q : Out → MH → Prop}  (k : MW mJ10_bitCount d 45 (L) (vi 16 :: S) M Q) : MW mJ10_bitCount d 43 (L) S M Q := mw_bipush ⟨dJ10_bitCount_43, rfl⟩ (by decide) k
theorem dJ10_bitCount_45 : decode cJ10_bitCount 45 = .ok (.iushr, 1) := dk_124 (dk_at dksJ10_bitCount_1 21 rfl rfl)
theorem iJ10_bitCount_45 {d : Nat} {L S : List MV} {M : MH} {Q : Out → MH → Prop} {a b : Int} (k : MW mJ10_bitCount d 46 (L) (vi (bushr a b) :: S) M Q) : MW mJ10_bitCount d 45 (L) (vi b :: vi a :: S) M Q := mw_iushr ⟨dJ10_bitCount_45, rfl⟩ k
theorem dJ10_bitCount_46 : decode cJ10_bitCount 46 = .ok (.iadd, 1) := dk_96 (dk_at dksJ10_bitCount_1 22 rfl rfl)
theorem iJ10_bitCount_46 {d : Nat} {L S : List MV} {M : MH} {Q : Out → MH → Prop} {a b : Int} (k : MW mJ10_bitCount d 47 (L) (vi (a + b) :: S) M Q) : MW mJ10_bitCount d 46 (L) (vi b :: vi a :: S) M Q := mw_iadd ⟨dJ10_bitCount_46, rfl⟩ k
theorem dJ10_bitCount_47 : decode cJ10_bitCount 47 = .ok (.istore_n 0, 1) := dk_59 (dk_at dksJ10_bitCount_1 23 rfl rfl)
theorem iJ10_bitCount_47 {d : Nat} {r S : List MV} {M : MH} {Q : Out → MH → Prop} {z : Int} {v : MV} (k : MW mJ10_bitCount d 48 (vi z :: r) S M Q) (hok : okSt (v :: r) 0 = true := by rfl) : MW mJ10_bitCount d 47 (v :: r) (vi z :: S) M Q := mw_istore_n (i := 0) ⟨dJ10_bitCount_47, rfl⟩ rfl (Nat.le_of_ble_eq_true rfl) hok k
theorem dJ10_bitCount_48 : decode cJ10_bitCount 48 = .ok (.iload_n 0, 1) := dk_26 (dk_at dksJ10_bitCount_2 0 rfl rfl)
theorem iJ10_bitCount_48 {d : Nat} {r S : List MV} {M : MH} {Q : Out → MH → Prop} {z : Int} (k : MW mJ10_bitCount d 49 (vi z :: r) (vi z :: S) M Q) : MW mJ10_bitCount d 48 (vi z :: r) S M Q := mw_iload_n ⟨dJ10_bitCount_48, rfl⟩ rfl k
theorem dJ10_bitCount_49 : decode cJ10_bitCount 49 = .ok (.bipush 63, 2) := dk_16 63 (dk_at dksJ10_bitCount_2 1 rfl rfl)
theorem iJ10_bitCount_49 {d : Nat} {L S : List MV} {M : MH} {Q : Out → MH → Prop}  (k : MW mJ10_bitCount d 51 (L) (vi 63 :: S) M Q) : MW mJ10_bitCount d 49 (L) S M Q := mw_bipush ⟨dJ10_bitCount_49, rfl⟩ (by decide) k
theorem dJ10_bitCount_51 : decode cJ10_bitCount 51 = .ok (.iand, 1) := dk_126 (dk_at dksJ10_bitCount_2 3 rfl rfl)
theorem iJ10_bitCount_51 {d : Nat} {L S : List MV} {M : MH} {Q : Out → MH → Prop} {a b : Int} (k : MW mJ10_bitCount d 52 (L) (vi (band a b) :: S) M Q) : MW mJ10_bitCount d 51 (L) (vi b :: vi a :: S) M Q := mw_iand ⟨dJ10_bitCount_51, rfl⟩ k
theorem dJ10_bitCount_52 : decode cJ10_bitCount 52 = .ok (.ireturn, 1) := dk_172 (dk_at dksJ10_bitCount_2 4 rfl rfl)
theorem iJ10_bitCount_52 {d : Nat} {L : List MV} {M : MH} {P : Int → MH → Prop} {z : Int} (hq : P z M) : MW mJ10_bitCount d 52 L [vi z] M (Ri P) := mw_reti ⟨dJ10_bitCount_52, rfl⟩ rfl hq
