set_option maxRecDepth 100000
/-! J3_init -/
def dkwJ3_init_1 : List UInt8 := [182, 0, 27, 87, 177]
abbrev dktJ3_init_1 : List UInt8 := dkwJ3_init_1 ++ []
def dkwJ3_init_0 : List UInt8 := [42, 183, 0, 1, 42, 42, 181, 0, 7, 42, 178, 0, 13, 181, 0, 17, 42, 178, 0, 20, 181, 0, 24, 42]
abbrev dktJ3_init_0 : List UInt8 := dkwJ3_init_0 ++ dktJ3_init_1
theorem dksJ3_init_0 : cJ3_init.data.toList.drop 0 = dktJ3_init_0 := by decide +kernel
theorem dksJ3_init_1 : cJ3_init.data.toList.drop 24 = dktJ3_init_1 := dk_seg dksJ3_init_0 24 rfl rfl
theorem dJ3_init_0 : decode cJ3_init 0 = .ok (.aload_n 0, 1) := dk_42 (dk_at dksJ3_init_0 0 rfl rfl)
theorem iJ3_init_0 {d : Nat} {r S : List MV} {M : MH} {Q : Out → MH → Prop} {o : Option Nat} (k : MW mJ3_init d 1 (vr o :: r) (vr o :: S) M Q) : MW mJ3_init d 0 (vr o :: r) S M Q := mw_aload_n ⟨dJ3_init_0, rfl⟩ rfl k
theorem dJ3_init_1 : decode cJ3_init 1 = .ok (.invokespecial 1, 3) := dk_183 0 1 (dk_at dksJ3_init_0 1 rfl rfl)
theorem iJ3_init_1 {d : Nat} {L S : List MV} {M : MH} {Q : Out → MH → Prop} {a : Nat} (k : MW mJ3_init (d + 1) 4 L S M Q) (h8 : Nat.ble (S.map mcat).sum 8 = true := by rfl) : MW mJ3_init (d + 1) 1 L (vp a :: S) M Q := mw_objInit ⟨dJ3_init_1, rfl⟩ q438 q125 q126 (Nat.le_of_ble_eq_true h8) k
theorem dJ3_init_4 : decode cJ3_init 4 = .ok (.aload_n 0, 1) := dk_42 (dk_at dksJ3_init_0 4 rfl rfl)
theorem iJ3_init_4 {d : Nat} {r S : List MV} {M : MH} {Q : Out → MH → Prop} {o : Option Nat} (k : MW mJ3_init d 5 (vr o :: r) (vr o :: S) M Q) : MW mJ3_init d 4 (vr o :: r) S M Q := mw_aload_n ⟨dJ3_init_4, rfl⟩ rfl k
theorem dJ3_init_5 : decode cJ3_init 5 = .ok (.aload_n 0, 1) := dk_42 (dk_at dksJ3_init_0 5 rfl rfl)
theorem iJ3_init_5 {d : Nat} {r S : List MV} {M : MH} {Q : Out → MH → Prop} {o : Option Nat} (k : MW mJ3_init d 6 (vr o :: r) (vr o :: S) M Q) : MW mJ3_init d 5 (vr o :: r) S M Q := mw_aload_n ⟨dJ3_init_5, rfl⟩ rfl k
theorem dJ3_init_6 : decode cJ3_init 6 = .ok (.putfield 7, 3) := dk_181 0 7 (dk_at dksJ3_init_0 6 rfl rfl)
theorem iJ3_init_6 {d : Nat} {L S : List MV} {M : MH} {Q : Out → MH → Prop} {a : Nat} {o : Option Nat} (hs : (msh M a).1 = 9) (k : MW mJ3_init d 9 L S (wR M a 0 o) Q) : MW mJ3_init d 6 L (vr o :: vp a :: S) M Q := mw_putR (ci := 9) (k := 0) ⟨dJ3_init_6, rfl⟩ ⟨_, rfl, Nat.le_of_ble_eq_true rfl, Or.inl ⟨rfl, Or.inl q468⟩⟩ (Or.inl ⟨_, rfl⟩) hs k
theorem dJ3_init_9 : decode cJ3_init 9 = .ok (.aload_n 0, 1) := dk_42 (dk_at dksJ3_init_0 9 rfl rfl)
theorem iJ3_init_9 {d : Nat} {r S : List MV} {M : MH} {Q : Out → MH → Prop} {o : Option Nat} (k : MW mJ3_init d 10 (vr o :: r) (vr o :: S) M Q) : MW mJ3_init d 9 (vr o :: r) S M Q := mw_aload_n ⟨dJ3_init_9, rfl⟩ rfl k
theorem dJ3_init_10 : decode cJ3_init 10 = .ok (.getstatic 13, 3) := dk_178 0 13 (dk_at dksJ3_init_0 10 rfl rfl)
theorem dJ3_init_13 : decode cJ3_init 13 = .ok (.putfield 17, 3) := dk_181 0 17 (dk_at dksJ3_init_0 13 rfl rfl)
theorem iJ3_init_13 {d : Nat} {L S : List MV} {M : MH} {Q : Out → MH → Prop} {a : Nat} {o : Option Nat} (hs : (msh M a).1 = 9) (k : MW mJ3_init d 16 L S (wR M a 1 o) Q) : MW mJ3_init d 13 L (vr o :: vp a :: S) M Q := mw_putR (ci := 9) (k := 1) ⟨dJ3_init_13, rfl⟩ ⟨_, rfl, Nat.le_of_ble_eq_true rfl, Or.inl ⟨rfl, Or.inl q469⟩⟩ (Or.inr ⟨_, rfl⟩) hs k
theorem dJ3_init_16 : decode cJ3_init 16 = .ok (.aload_n 0, 1) := dk_42 (dk_at dksJ3_init_0 16 rfl rfl)
theorem iJ3_init_16 {d : Nat} {r S : List MV} {M : MH} {Q : Out → MH → Prop} {o : Option Nat} (k : MW mJ3_init d 17 (vr o :: r) (vr o :: S) M Q) : MW mJ3_init d 16 (vr o :: r) S M Q := mw_aload_n ⟨dJ3_init_16, rfl⟩ rfl k
theorem dJ3_init_17 : decode cJ3_init 17 = .ok (.getstatic 20, 3) := dk_178 0 20 (dk_at dksJ3_init_0 17 rfl rfl)
theorem dJ3_init_20 : decode cJ3_init 20 = .ok (.putfield 24, 3) := dk_181 0 24 (dk_at dksJ3_init_0 20 rfl rfl)
theorem iJ3_init_20 {d : Nat} {L S : List MV} {M : MH} {Q : Out → MH → Prop} {a : Nat} {o : Option Nat} (hs : (msh M a).1 = 9) (k : MW mJ3_init d 23 L S (wR M a 2 o) Q) : MW mJ3_init d 20 L (vr o :: vp a :: S) M Q := mw_putR (ci := 9) (k := 2) ⟨dJ3_init_20, rfl⟩ ⟨_, rfl, Nat.le_of_ble_eq_true rfl, Or.inl ⟨rfl, Or.inl q470⟩⟩ (Or.inl ⟨_, rfl⟩) hs k
theorem dJ3_init_23 : decode cJ3_init 23 = .ok (.aload_n 0, 1) := dk_42 (dk_at dksJ3_init_0 23 rfl rfl)
theorem iJ3_init_23 {d : Nat} {r S : List MV} {M : MH} {Q : Out → MH → Prop} {o : Option Nat} (k : MW mJ3_init d 24 (vr o :: r) (vr o :: S) M Q) : MW mJ3_init d 23 (vr o :: r) S M Q := mw_aload_n ⟨dJ3_init_23, rfl⟩ rfl k
theorem dJ3_init_24 : decode cJ3_init 24 = .ok (.invokevirtual 27, 3) := dk_182 0 27 (dk_at dksJ3_init_1 0 rfl rfl)
theorem dJ3_init_27 : decode cJ3_init 27 = .ok (.pop, 1) := dk_87 (dk_at dksJ3_init_1 3 rfl rfl)
theorem iJ3_init_27 {d : Nat} {L S : List MV} {M : MH} {Q : Out → MH → Prop} {v : MV} (k : MW mJ3_init d 28 L S M Q) (hv : mcat v = 1 := by rfl) : MW mJ3_init d 27 L (v :: S) M Q := mw_pop ⟨dJ3_init_27, rfl⟩ hv k
theorem dJ3_init_28 : decode cJ3_init 28 = .ok (.return_, 1) := dk_177 (dk_at dksJ3_init_1 4 rfl rfl)
theorem iJ3_init_28 {d : Nat} {L : List MV} {M : MH} {P : MH → Prop} (hq : P M) : MW mJ3_init d 28 L [] M (Rv P) := mw_retv ⟨dJ3_init_28, rfl⟩ rfl hq
/-! J3_init_2 -/
def dkwJ3_init_2_2 : List UInt8 := [44, 181, 0, 7, 29, 154, 0, 8, 42, 1, 181, 0, 24, 177]
abbrev dktJ3_init_2_2 : List UInt8 := dkwJ3_init_2_2 ++ []
def dkwJ3_init_2_1 : List UInt8 := [21, 4, 153, 0, 11, 42, 182, 0, 27, 87, 167, 0, 8, 42, 1, 181, 0, 17, 42, 43, 181, 0, 31, 42]
abbrev dktJ3_init_2_1 : List UInt8 := dkwJ3_init_2_1 ++ dktJ3_init_2_2
def dkwJ3_init_2_0 : List UInt8 := [42, 183, 0, 1, 42, 42, 181, 0, 7, 42, 178, 0, 13, 181, 0, 17, 42, 178, 0, 20, 181, 0, 24]
abbrev dktJ3_init_2_0 : List UInt8 := dkwJ3_init_2_0 ++ dktJ3_init_2_1
theorem dksJ3_init_2_0 : cJ3_init_2.data.toList.drop 0 = dktJ3_init_2_0 := by decide +kernel
theorem dksJ3_init_2_1 : cJ3_init_2.data.toList.drop 23 = dktJ3_init_2_1 := dk_seg dksJ3_init_2_0 23 rfl rfl
theorem dksJ3_init_2_2 : cJ3_init_2.data.toList.drop 47 = dktJ3_init_2_2 := dk_seg dksJ3_init_2_1 24 rfl rfl
theorem dJ3_init_2_0 : decode cJ3_init_2 0 = .ok (.aload_n 0, 1) := dk_42 (dk_at dksJ3_init_2_0 0 rfl rfl)
theorem iJ3_init_2_0 {d : Nat} {r S : List MV} {M : MH} {Q : Out → MH → Prop} {o : Option Nat} (k : MW mJ3_init_2 d 1 (vr o :: r) (vr o :: S) M Q) : MW mJ3_init_2 d 0 (vr o :: r) S M Q := mw_aload_n ⟨dJ3_init_2_0, rfl⟩ rfl k
theorem dJ3_init_2_1 : decode cJ3_init_2 1 = .ok (.invokespecial 1, 3) := dk_183 0 1 (dk_at dksJ3_init_2_0 1 rfl rfl)
theorem iJ3_init_2_1 {d : Nat} {L S : List MV} {M : MH} {Q : Out → MH → Prop} {a : Nat} (k : MW mJ3_init_2 (d + 1) 4 L S M Q) (h8 : Nat.ble (S.map mcat).sum 8 = true := by rfl) : MW mJ3_init_2 (d + 1) 1 L (vp a :: S) M Q := mw_objInit ⟨dJ3_init_2_1, rfl⟩ q438 q125 q126 (Nat.le_of_ble_eq_true h8) k
theorem dJ3_init_2_4 : decode cJ3_init_2 4 = .ok (.aload_n 0, 1) := dk_42 (dk_at dksJ3_init_2_0 4 rfl rfl)
theorem iJ3_init_2_4 {d : Nat} {r S : List MV} {M : MH} {Q : Out → MH → Prop} {o : Option Nat} (k : MW mJ3_init_2 d 5 (vr o :: r) (vr o :: S) M Q) : MW mJ3_init_2 d 4 (vr o :: r) S M Q := mw_aload_n ⟨dJ3_init_2_4, rfl⟩ rfl k
theorem dJ3_init_2_5 : decode cJ3_init_2 5 = .ok (.aload_n 0, 1) := dk_42 (dk_at dksJ3_init_2_0 5 rfl rfl)
theorem iJ3_init_2_5 {d : Nat} {r S : List MV} {M : MH} {Q : Out → MH → Prop} {o : Option Nat} (k : MW mJ3_init_2 d 6 (vr o :: r) (vr o :: S) M Q) : MW mJ3_init_2 d 5 (vr o :: r) S M Q := mw_aload_n ⟨dJ3_init_2_5, rfl⟩ rfl k
theorem dJ3_init_2_6 : decode cJ3_init_2 6 = .ok (.putfield 7, 3) := dk_181 0 7 (dk_at dksJ3_init_2_0 6 rfl rfl)
theorem iJ3_init_2_6 {d : Nat} {L S : List MV} {M : MH} {Q : Out → MH → Prop} {a : Nat} {o : Option Nat} (hs : (msh M a).1 = 9) (k : MW mJ3_init_2 d 9 L S (wR M a 0 o) Q) : MW mJ3_init_2 d 6 L (vr o :: vp a :: S) M Q := mw_putR (ci := 9) (k := 0) ⟨dJ3_init_2_6, rfl⟩ ⟨_, rfl, Nat.le_of_ble_eq_true rfl, Or.inl ⟨rfl, Or.inl q468⟩⟩ (Or.inl ⟨_, rfl⟩) hs k
theorem dJ3_init_2_9 : decode cJ3_init_2 9 = .ok (.aload_n 0, 1) := dk_42 (dk_at dksJ3_init_2_0 9 rfl rfl)
theorem iJ3_init_2_9 {d : Nat} {r S : List MV} {M : MH} {Q : Out → MH → Prop} {o : Option Nat} (k : MW mJ3_init_2 d 10 (vr o :: r) (vr o :: S) M Q) : MW mJ3_init_2 d 9 (vr o :: r) S M Q := mw_aload_n ⟨dJ3_init_2_9, rfl⟩ rfl k
theorem dJ3_init_2_10 : decode cJ3_init_2 10 = .ok (.getstatic 13, 3) := dk_178 0 13 (dk_at dksJ3_init_2_0 10 rfl rfl)
theorem dJ3_init_2_13 : decode cJ3_init_2 13 = .ok (.putfield 17, 3) := dk_181 0 17 (dk_at dksJ3_init_2_0 13 rfl rfl)
theorem iJ3_init_2_13 {d : Nat} {L S : List MV} {M : MH} {Q : Out → MH → Prop} {a : Nat} {o : Option Nat} (hs : (msh M a).1 = 9) (k : MW mJ3_init_2 d 16 L S (wR M a 1 o) Q) : MW mJ3_init_2 d 13 L (vr o :: vp a :: S) M Q := mw_putR (ci := 9) (k := 1) ⟨dJ3_init_2_13, rfl⟩ ⟨_, rfl, Nat.le_of_ble_eq_true rfl, Or.inl ⟨rfl, Or.inl q469⟩⟩ (Or.inr ⟨_, rfl⟩) hs k
theorem dJ3_init_2_16 : decode cJ3_init_2 16 = .ok (.aload_n 0, 1) := dk_42 (dk_at dksJ3_init_2_0 16 rfl rfl)
theorem iJ3_init_2_16 {d : Nat} {r S : List MV} {M : MH} {Q : Out → MH → Prop} {o : Option Nat} (k : MW mJ3_init_2 d 17 (vr o :: r) (vr o :: S) M Q) : MW mJ3_init_2 d 16 (vr o :: r) S M Q := mw_aload_n ⟨dJ3_init_2_16, rfl⟩ rfl k
theorem dJ3_init_2_17 : decode cJ3_init_2 17 = .ok (.getstatic 20, 3) := dk_178 0 20 (dk_at dksJ3_init_2_0 17 rfl rfl)
theorem dJ3_init_2_20 : decode cJ3_init_2 20 = .ok (.putfield 24, 3) := dk_181 0 24 (dk_at dksJ3_init_2_0 20 rfl rfl)
theorem iJ3_init_2_20 {d : Nat} {L S : List MV} {M : MH} {Q : Out → MH → Prop} {a : Nat} {o : Option Nat} (hs : (msh M a).1 = 9) (k : MW mJ3_init_2 d 23 L S (wR M a 2 o) Q) : MW mJ3_init_2 d 20 L (vr o :: vp a :: S) M Q := mw_putR (ci := 9) (k := 2) ⟨dJ3_init_2_20, rfl⟩ ⟨_, rfl, Nat.le_of_ble_eq_true rfl, Or.inl ⟨rfl, Or.inl q470⟩⟩ (Or.inl ⟨_, rfl⟩) hs k
theorem dJ3_init_2_23 : decode cJ3_init_2 23 = .ok (.iload 4, 2) := dk_21 4 (dk_at dksJ3_init_2_1 0 rfl rfl)
theorem iJ3_init_2_23 {d : Nat} {r S : List MV} {M : MH} {Q : Out → MH → Prop} {w0 w1 w2 w3 : MV} {z : Int} (k : MW mJ3_init_2 d 25 (w0 :: w1 :: w2 :: w3 :: vi z :: r) (vi z :: S) M Q) : MW mJ3_init_2 d 23 (w0 :: w1 :: w2 :: w3 :: vi z :: r) S M Q := mw_iload ⟨dJ3_init_2_23, rfl⟩ rfl k
theorem dJ3_init_2_25 : decode cJ3_init_2 25 = .ok (.ifCond .eq 11, 3) := dk_153 0 11 (dk_at dksJ3_init_2_1 2 rfl rfl)
theorem iJ3_init_2_25 {d : Nat} {L S : List MV} {M : MH} {Q : Out → MH → Prop} {a : Int} (ha : inR a) (kt : a = 0 → MW mJ3_init_2 d 36 L S M Q) (kf : ¬ a = 0 → MW mJ3_init_2 d 28 L S M Q) : MW mJ3_init_2 d 25 L (vi a :: S) M Q := mw_if_eq ⟨dJ3_init_2_25, rfl⟩ rfl ha kt kf
theorem dJ3_init_2_28 : decode cJ3_init_2 28 = .ok (.aload_n 0, 1) := dk_42 (dk_at dksJ3_init_2_1 5 rfl rfl)
theorem iJ3_init_2_28 {d : Nat} {r S : List MV} {M : MH} {Q : Out → MH → Prop} {o : Option Nat} (k : MW mJ3_init_2 d 29 (vr o :: r) (vr o :: S) M Q) : MW mJ3_init_2 d 28 (vr o :: r) S M Q := mw_aload_n ⟨dJ3_init_2_28, rfl⟩ rfl k
theorem dJ3_init_2_29 : decode cJ3_init_2 29 = .ok (.invokevirtual 27, 3) := dk_182 0 27 (dk_at dksJ3_init_2_1 6 rfl rfl)
theorem dJ3_init_2_32 : decode cJ3_init_2 32 = .ok (.pop, 1) := dk_87 (dk_at dksJ3_init_2_1 9 rfl rfl)
theorem iJ3_init_2_32 {d : Nat} {L S : List MV} {M : MH} {Q : Out → MH → Prop} {v : MV} (k : MW mJ3_init_2 d 33 L S M Q) (hv : mcat v = 1 := by rfl) : MW mJ3_init_2 d 32 L (v :: S) M Q := mw_pop ⟨dJ3_init_2_32, rfl⟩ hv k
theorem dJ3_init_2_33 : decode cJ3_init_2 33 = .ok (.goto 8, 3) := dk_167 0 8 (dk_at dksJ3_init_2_1 10 rfl rfl)
theorem iJ3_init_2_33 {d : Nat} {L S : List MV} {M : MH} {Q : Out → MH → Prop}  (k : MW mJ3_init_2 d 41 (L) S M Q) : MW mJ3_init_2 d 33 (L) S M Q := mw_goto ⟨dJ3_init_2_33, rfl⟩ rfl k
theorem dJ3_init_2_36 : decode cJ3_init_2 36 = .ok (.aload_n 0, 1) := dk_42 (dk_at dksJ3_init_2_1 13 rfl rfl)
theorem iJ3_init_2_36 {d : Nat} {r S : List MV} {M : MH} {Q : Out → MH → Prop} {o : Option Nat} (k : MW mJ3_init_2 d 37 (vr o :: r) (vr o :: S) M Q) : MW mJ3_init_2 d 36 (vr o :: r) S M Q := mw_aload_n ⟨dJ3_init_2_36, rfl⟩ rfl k
theorem dJ3_init_2_37 : decode cJ3_init_2 37 = .ok (.aconst_null, 1) := dk_1 (dk_at dksJ3_init_2_1 14 rfl rfl)
theorem iJ3_init_2_37 {d : Nat} {L S : List MV} {M : MH} {Q : Out → MH → Prop}  (k : MW mJ3_init_2 d 38 (L) (vr none :: S) M Q) : MW mJ3_init_2 d 37 (L) S M Q := mw_null ⟨dJ3_init_2_37, rfl⟩ k
theorem dJ3_init_2_38 : decode cJ3_init_2 38 = .ok (.putfield 17, 3) := dk_181 0 17 (dk_at dksJ3_init_2_1 15 rfl rfl)
theorem iJ3_init_2_38 {d : Nat} {L S : List MV} {M : MH} {Q : Out → MH → Prop} {a : Nat} {o : Option Nat} (hs : (msh M a).1 = 9) (k : MW mJ3_init_2 d 41 L S (wR M a 1 o) Q) : MW mJ3_init_2 d 38 L (vr o :: vp a :: S) M Q := mw_putR (ci := 9) (k := 1) ⟨dJ3_init_2_38, rfl⟩ ⟨_, rfl, Nat.le_of_ble_eq_true rfl, Or.inl ⟨rfl, Or.inl q469⟩⟩ (Or.inr ⟨_, rfl⟩) hs k
theorem dJ3_init_2_41 : decode cJ3_init_2 41 = .ok (.aload_n 0, 1) := dk_42 (dk_at dksJ3_init_2_1 18 rfl rfl)
theorem iJ3_init_2_41 {d : Nat} {r S : List MV} {M : MH} {Q : Out → MH → Prop} {o : Option Nat} (k : MW mJ3_init_2 d 42 (vr o :: r) (vr o :: S) M Q) : MW mJ3_init_2 d 41 (vr o :: r) S M Q := mw_aload_n ⟨dJ3_init_2_41, rfl⟩ rfl k
theorem dJ3_init_2_42 : decode cJ3_init_2 42 = .ok (.aload_n 1, 1) := dk_43 (dk_at dksJ3_init_2_1 19 rfl rfl)
theorem iJ3_init_2_42 {d : Nat} {r S : List MV} {M : MH} {Q : Out → MH → Prop} {w0 : MV} {o : Option Nat} (k : MW mJ3_init_2 d 43 (w0 :: vr o :: r) (vr o :: S) M Q) : MW mJ3_init_2 d 42 (w0 :: vr o :: r) S M Q := mw_aload_n ⟨dJ3_init_2_42, rfl⟩ rfl k
theorem dJ3_init_2_43 : decode cJ3_init_2 43 = .ok (.putfield 31, 3) := dk_181 0 31 (dk_at dksJ3_init_2_1 20 rfl rfl)
theorem iJ3_init_2_43 {d : Nat} {L S : List MV} {M : MH} {Q : Out → MH → Prop} {a : Nat} {o : Option Nat} (hs : (msh M a).1 = 9) (k : MW mJ3_init_2 d 46 L S (wR M a 3 o) Q) : MW mJ3_init_2 d 43 L (vr o :: vp a :: S) M Q := mw_putR (ci := 9) (k := 3) ⟨dJ3_init_2_43, rfl⟩ ⟨_, rfl, Nat.le_of_ble_eq_true rfl, Or.inl ⟨rfl, Or.inl q467⟩⟩ (Or.inl ⟨_, rfl⟩) hs k
theorem dJ3_init_2_46 : decode cJ3_init_2 46 = .ok (.aload_n 0, 1) := dk_42 (dk_at dksJ3_init_2_1 23 rfl rfl)
theorem iJ3_init_2_46 {d : Nat} {r S : List MV} {M : MH} {Q : Out → MH → Prop} {o : Option Nat} (k : MW mJ3_init_2 d 47 (vr o :: r) (vr o :: S) M Q) : MW mJ3_init_2 d 46 (vr o :: r) S M Q := mw_aload_n ⟨dJ3_init_2_46, rfl⟩ rfl k
theorem dJ3_init_2_47 : decode cJ3_init_2 47 = .ok (.aload_n 2, 1) := dk_44 (dk_at dksJ3_init_2_2 0 rfl rfl)
theorem iJ3_init_2_47 {d : Nat} {r S : List MV} {M : MH} {Q : Out → MH → Prop} {w0 w1 : MV} {o : Option Nat} (k : MW mJ3_init_2 d 48 (w0 :: w1 :: vr o :: r) (vr o :: S) M Q) : MW mJ3_init_2 d 47 (w0 :: w1 :: vr o :: r) S M Q := mw_aload_n ⟨dJ3_init_2_47, rfl⟩ rfl k
theorem dJ3_init_2_48 : decode cJ3_init_2 48 = .ok (.putfield 7, 3) := dk_181 0 7 (dk_at dksJ3_init_2_2 1 rfl rfl)
theorem iJ3_init_2_48 {d : Nat} {L S : List MV} {M : MH} {Q : Out → MH → Prop} {a : Nat} {o : Option Nat} (hs : (msh M a).1 = 9) (k : MW mJ3_init_2 d 51 L S (wR M a 0 o) Q) : MW mJ3_init_2 d 48 L (vr o :: vp a :: S) M Q := mw_putR (ci := 9) (k := 0) ⟨dJ3_init_2_48, rfl⟩ ⟨_, rfl, Nat.le_of_ble_eq_true rfl, Or.inl ⟨rfl, Or.inl q468⟩⟩ (Or.inl ⟨_, rfl⟩) hs k
theorem dJ3_init_2_51 : decode cJ3_init_2 51 = .ok (.iload_n 3, 1) := dk_29 (dk_at dksJ3_init_2_2 4 rfl rfl)
theorem iJ3_init_2_51 {d : Nat} {r S : List MV} {M : MH} {Q : Out → MH → Prop} {w0 w1 w2 : MV} {z : Int} (k : MW mJ3_init_2 d 52 (w0 :: w1 :: w2 :: vi z :: r) (vi z :: S) M Q) : MW mJ3_init_2 d 51 (w0 :: w1 :: w2 :: vi z :: r) S M Q := mw_iload_n ⟨dJ3_init_2_51, rfl⟩ rfl k
theorem dJ3_init_2_52 : decode cJ3_init_2 52 = .ok (.ifCond .ne 8, 3) := dk_154 0 8 (dk_at dksJ3_init_2_2 5 rfl rfl)
theorem iJ3_init_2_52 {d : Nat} {L S : List MV} {M : MH} {Q : Out → MH → Prop} {a : Int} (ha : inR a) (kt : a ≠ 0 → MW mJ3_init_2 d 60 L S M Q) (kf : a = 0 → MW mJ3_init_2 d 55 L S M Q) : MW mJ3_init_2 d 52 L (vi a :: S) M Q := mw_if_ne ⟨dJ3_init_2_52, rfl⟩ rfl ha kt kf
theorem dJ3_init_2_55 : decode cJ3_init_2 55 = .ok (.aload_n 0, 1) := dk_42 (dk_at dksJ3_init_2_2 8 rfl rfl)
theorem iJ3_init_2_55 {d : Nat} {r S : List MV} {M : MH} {Q : Out → MH → Prop} {o : Option Nat} (k : MW mJ3_init_2 d 56 (vr o :: r) (vr o :: S) M Q) : MW mJ3_init_2 d 55 (vr o :: r) S M Q := mw_aload_n ⟨dJ3_init_2_55, rfl⟩ rfl k
theorem dJ3_init_2_56 : decode cJ3_init_2 56 = .ok (.aconst_null, 1) := dk_1 (dk_at dksJ3_init_2_2 9 rfl rfl)
theorem iJ3_init_2_56 {d : Nat} {L S : List MV} {M : MH} {Q : Out → MH → Prop}  (k : MW mJ3_init_2 d 57 (L) (vr none :: S) M Q) : MW mJ3_init_2 d 56 (L) S M Q := mw_null ⟨dJ3_init_2_56, rfl⟩ k
theorem dJ3_init_2_57 : decode cJ3_init_2 57 = .ok (.putfield 24, 3) := dk_181 0 24 (dk_at dksJ3_init_2_2 10 rfl rfl)
theorem iJ3_init_2_57 {d : Nat} {L S : List MV} {M : MH} {Q : Out → MH → Prop} {a : Nat} {o : Option Nat} (hs : (msh M a).1 = 9) (k : MW mJ3_init_2 d 60 L S (wR M a 2 o) Q) : MW mJ3_init_2 d 57 L (vr o :: vp a :: S) M Q := mw_putR (ci := 9) (k := 2) ⟨dJ3_init_2_57, rfl⟩ ⟨_, rfl, Nat.le_of_ble_eq_true rfl, Or.inl ⟨rfl, Or.inl q470⟩⟩ (Or.inl ⟨_, rfl⟩) hs k
theorem dJ3_init_2_60 : decode cJ3_init_2 60 = .ok (.return_, 1) := dk_177 (dk_at dksJ3_init_2_2 13 rfl rfl)
theorem iJ3_init_2_60 {d : Nat} {L : List MV} {M : MH} {P : MH → Prop} (hq : P M) : MW mJ3_init_2 d 60 L [] M (Rv P) := mw_retv ⟨dJ3_init_2_60, rfl⟩ rfl hq
/-! J3_init_3 -/
def dkwJ3_init_3_1 : List UInt8 := [182, 0, 27, 87, 42, 43, 181, 0, 31, 177]
abbrev dktJ3_init_3_1 : List UInt8 := dkwJ3_init_3_1 ++ []
def dkwJ3_init_3_0 : List UInt8 := [42, 183, 0, 1, 42, 42, 181, 0, 7, 42, 178, 0, 13, 181, 0, 17, 42, 178, 0, 20, 181, 0, 24, 42]
abbrev dktJ3_init_3_0 : List UInt8 := dkwJ3_init_3_0 ++ dktJ3_init_3_1
theorem dksJ3_init_3_0 : cJ3_init_3.data.toList.drop 0 = dktJ3_init_3_0 := by decide +kernel
theorem dksJ3_init_3_1 : cJ3_init_3.data.toList.drop 24 = dktJ3_init_3_1 := dk_seg dksJ3_init_3_0 24 rfl rfl
theorem dJ3_init_3_0 : decode cJ3_init_3 0 = .ok (.aload_n 0, 1) := dk_42 (dk_at dksJ3_init_3_0 0 rfl rfl)
theorem iJ3_init_3_0 {d : Nat} {r S : List MV} {M : MH} {Q : Out → MH → Prop} {o : Option Nat} (k : MW mJ3_init_3 d 1 (vr o :: r) (vr o :: S) M Q) : MW mJ3_init_3 d 0 (vr o :: r) S M Q := mw_aload_n ⟨dJ3_init_3_0, rfl⟩ rfl k
theorem dJ3_init_3_1 : decode cJ3_init_3 1 = .ok (.invokespecial 1, 3) := dk_183 0 1 (dk_at dksJ3_init_3_0 1 rfl rfl)
theorem iJ3_init_3_1 {d : Nat} {L S : List MV} {M : MH} {Q : Out → MH → Prop} {a : Nat} (k : MW mJ3_init_3 (d + 1) 4 L S M Q) (h8 : Nat.ble (S.map mcat).sum 8 = true := by rfl) : MW mJ3_init_3 (d + 1) 1 L (vp a :: S) M Q := mw_objInit ⟨dJ3_init_3_1, rfl⟩ q438 q125 q126 (Nat.le_of_ble_eq_true h8) k
theorem dJ3_init_3_4 : decode cJ3_init_3 4 = .ok (.aload_n 0, 1) := dk_42 (dk_at dksJ3_init_3_0 4 rfl rfl)
theorem iJ3_init_3_4 {d : Nat} {r S : List MV} {M : MH} {Q : Out → MH → Prop} {o : Option Nat} (k : MW mJ3_init_3 d 5 (vr o :: r) (vr o :: S) M Q) : MW mJ3_init_3 d 4 (vr o :: r) S M Q := mw_aload_n ⟨dJ3_init_3_4, rfl⟩ rfl k
theorem dJ3_init_3_5 : decode cJ3_init_3 5 = .ok (.aload_n 0, 1) := dk_42 (dk_at dksJ3_init_3_0 5 rfl rfl)
theorem iJ3_init_3_5 {d : Nat} {r S : List MV} {M : MH} {Q : Out → MH → Prop} {o : Option Nat} (k : MW mJ3_init_3 d 6 (vr o :: r) (vr o :: S) M Q) : MW mJ3_init_3 d 5 (vr o :: r) S M Q := mw_aload_n ⟨dJ3_init_3_5, rfl⟩ rfl k
theorem dJ3_init_3_6 : decode cJ3_init_3 6 = .ok (.putfield 7, 3) := dk_181 0 7 (dk_at dksJ3_init_3_0 6 rfl rfl)
theorem iJ3_init_3_6 {d : Nat} {L S : List MV} {M : MH} {Q : Out → MH → Prop} {a : Nat} {o : Option Nat} (hs : (msh M a).1 = 9) (k : MW mJ3_init_3 d 9 L S (wR M a 0 o) Q) : MW mJ3_init_3 d 6 L (vr o :: vp a :: S) M Q := mw_putR (ci := 9) (k := 0) ⟨dJ3_init_3_6, rfl⟩ ⟨_, rfl, Nat.le_of_ble_eq_true rfl, Or.inl ⟨rfl, Or.inl q468⟩⟩ (Or.inl ⟨_, rfl⟩) hs k
theorem dJ3_init_3_9 : decode cJ3_init_3 9 = .ok (.aload_n 0, 1) := dk_42 (dk_at dksJ3_init_3_0 9 rfl rfl)
theorem iJ3_init_3_9 {d : Nat} {r S : List MV} {M : MH} {Q : Out → MH → Prop} {o : Option Nat} (k : MW mJ3_init_3 d 10 (vr o :: r) (vr o :: S) M Q) : MW mJ3_init_3 d 9 (vr o :: r) S M Q := mw_aload_n ⟨dJ3_init_3_9, rfl⟩ rfl k
theorem dJ3_init_3_10 : decode cJ3_init_3 10 = .ok (.getstatic 13, 3) := dk_178 0 13 (dk_at dksJ3_init_3_0 10 rfl rfl)
theorem dJ3_init_3_13 : decode cJ3_init_3 13 = .ok (.putfield 17, 3) := dk_181 0 17 (dk_at dksJ3_init_3_0 13 rfl rfl)
theorem iJ3_init_3_13 {d : Nat} {L S : List MV} {M : MH} {Q : Out → MH → Prop} {a : Nat} {o : Option Nat} (hs : (msh M a).1 = 9) (k : MW mJ3_init_3 d 16 L S (wR M a 1 o) Q) : MW mJ3_init_3 d 13 L (vr o :: vp a :: S) M Q := mw_putR (ci := 9) (k := 1) ⟨dJ3_init_3_13, rfl⟩ ⟨_, rfl, Nat.le_of_ble_eq_true rfl, Or.inl ⟨rfl, Or.inl q469⟩⟩ (Or.inr ⟨_, rfl⟩) hs k
theorem dJ3_init_3_16 : decode cJ3_init_3 16 = .ok (.aload_n 0, 1) := dk_42 (dk_at dksJ3_init_3_0 16 rfl rfl)
theorem iJ3_init_3_16 {d : Nat} {r S : List MV} {M : MH} {Q : Out → MH → Prop} {o : Option Nat} (k : MW mJ3_init_3 d 17 (vr o :: r) (vr o :: S) M Q) : MW mJ3_init_3 d 16 (vr o :: r) S M Q := mw_aload_n ⟨dJ3_init_3_16, rfl⟩ rfl k
theorem dJ3_init_3_17 : decode cJ3_init_3 17 = .ok (.getstatic 20, 3) := dk_178 0 20 (dk_at dksJ3_init_3_0 17 rfl rfl)
theorem dJ3_init_3_20 : decode cJ3_init_3 20 = .ok (.putfield 24, 3) := dk_181 0 24 (dk_at dksJ3_init_3_0 20 rfl rfl)
theorem iJ3_init_3_20 {d : Nat} {L S : List MV} {M : MH} {Q : Out → MH → Prop} {a : Nat} {o : Option Nat} (hs : (msh M a).1 = 9) (k : MW mJ3_init_3 d 23 L S (wR M a 2 o) Q) : MW mJ3_init_3 d 20 L (vr o :: vp a :: S) M Q := mw_putR (ci := 9) (k := 2) ⟨dJ3_init_3_20, rfl⟩ ⟨_, rfl, Nat.le_of_ble_eq_true rfl, Or.inl ⟨rfl, Or.inl q470⟩⟩ (Or.inl ⟨_, rfl⟩) hs k
theorem dJ3_init_3_23 : decode cJ3_init_3 23 = .ok (.aload_n 0, 1) := dk_42 (dk_at dksJ3_init_3_0 23 rfl rfl)
theorem iJ3_init_3_23 {d : Nat} {r S : List MV} {M : MH} {Q : Out → MH → Prop} {o : Option Nat} (k : MW mJ3_init_3 d 24 (vr o :: r) (vr o :: S) M Q) : MW mJ3_init_3 d 23 (vr o :: r) S M Q := mw_aload_n ⟨dJ3_init_3_23, rfl⟩ rfl k
theorem dJ3_init_3_24 : decode cJ3_init_3 24 = .ok (.invokevirtual 27, 3) := dk_182 0 27 (dk_at dksJ3_init_3_1 0 rfl rfl)
theorem dJ3_init_3_27 : decode cJ3_init_3 27 = .ok (.pop, 1) := dk_87 (dk_at dksJ3_init_3_1 3 rfl rfl)
theorem iJ3_init_3_27 {d : Nat} {L S : List MV} {M : MH} {Q : Out → MH → Prop} {v : MV} (k : MW mJ3_init_3 d 28 L S M Q) (hv : mcat v = 1 := by rfl) : MW mJ3_init_3 d 27 L (v :: S) M Q := mw_pop ⟨dJ3_init_3_27, rfl⟩ hv k
theorem dJ3_init_3_28 : decode cJ3_init_3 28 = .ok (.aload_n 0, 1) := dk_42 (dk_at dksJ3_init_3_1 4 rfl rfl)
theorem iJ3_init_3_28 {d : Nat} {r S : List MV} {M : MH} {Q : Out → MH → Prop} {o : Option Nat} (k : MW mJ3_init_3 d 29 (vr o :: r) (vr o :: S) M Q) : MW mJ3_init_3 d 28 (vr o :: r) S M Q := mw_aload_n ⟨dJ3_init_3_28, rfl⟩ rfl k
theorem dJ3_init_3_29 : decode cJ3_init_3 29 = .ok (.aload_n 1, 1) := dk_43 (dk_at dksJ3_init_3_1 5 rfl rfl)
theorem iJ3_init_3_29 {d : Nat} {r S : List MV} {M : MH} {Q : Out → MH → Prop} {w0 : MV} {o : Option Nat} (k : MW mJ3_init_3 d 30 (w0 :: vr o :: r) (vr o :: S) M Q) : MW mJ3_init_3 d 29 (w0 :: vr o :: r) S M Q := mw_aload_n ⟨dJ3_init_3_29, rfl⟩ rfl k
theorem dJ3_init_3_30 : decode cJ3_init_3 30 = .ok (.putfield 31, 3) := dk_181 0 31 (dk_at dksJ3_init_3_1 6 rfl rfl)
theorem iJ3_init_3_30 {d : Nat} {L S : List MV} {M : MH} {Q : Out → MH → Prop} {a : Nat} {o : Option Nat} (hs : (msh M a).1 = 9) (k : MW mJ3_init_3 d 33 L S (wR M a 3 o) Q) : MW mJ3_init_3 d 30 L (vr o :: vp a :: S) M Q := mw_putR (ci := 9) (k := 3) ⟨dJ3_init_3_30, rfl⟩ ⟨_, rfl, Nat.le_of_ble_eq_true rfl, Or.inl ⟨rfl, Or.inl q467⟩⟩ (Or.inl ⟨_, rfl⟩) hs k
theorem dJ3_init_3_33 : decode cJ3_init_3 33 = .ok (.return_, 1) := dk_177 (dk_at dksJ3_init_3_1 9 rfl rfl)
theorem iJ3_init_3_33 {d : Nat} {L : List MV} {M : MH} {P : MH → Prop} (hq : P M) : MW mJ3_init_3 d 33 L [] M (Rv P) := mw_retv ⟨dJ3_init_3_33, rfl⟩ rfl hq
/-! J4_init -/
def dkwJ4_init_0 : List UInt8 := [42, 43, 44, 29, 21, 4, 183, 0, 16, 177]
abbrev dktJ4_init_0 : List UInt8 := dkwJ4_init_0 ++ []
theorem dksJ4_init_0 : cJ4_init.data.toList.drop 0 = dktJ4_init_0 := by decide +kernel
theorem dJ4_init_0 : decode cJ4_init 0 = .ok (.aload_n 0, 1) := dk_42 (dk_at dksJ4_init_0 0 rfl rfl)
theorem iJ4_init_0 {d : Nat} {r S : List MV} {M : MH} {Q : Out → MH → Prop} {o : Option Nat} (k : MW mJ4_init d 1 (vr o :: r) (vr o :: S) M Q) : MW mJ4_init d 0 (vr o :: r) S M Q := mw_aload_n ⟨dJ4_init_0, rfl⟩ rfl k
theorem dJ4_init_1 : decode cJ4_init 1 = .ok (.aload_n 1, 1) := dk_43 (dk_at dksJ4_init_0 1 rfl rfl)
theorem iJ4_init_1 {d : Nat} {r S : List MV} {M : MH} {Q : Out → MH → Prop} {w0 : MV} {o : Option Nat} (k : MW mJ4_init d 2 (w0 :: vr o :: r) (vr o :: S) M Q) : MW mJ4_init d 1 (w0 :: vr o :: r) S M Q := mw_aload_n ⟨dJ4_init_1, rfl⟩ rfl k
theorem dJ4_init_3 : decode cJ4_init 3 = .ok (.iload_n 3, 1) := dk_29 (dk_at dksJ4_init_0 3 rfl rfl)
theorem iJ4_init_3 {d : Nat} {r S : List MV} {M : MH} {Q : Out → MH → Prop} {w0 w1 w2 : MV} {z : Int} (k : MW mJ4_init d 4 (w0 :: w1 :: w2 :: vi z :: r) (vi z :: S) M Q) : MW mJ4_init d 3 (w0 :: w1 :: w2 :: vi z :: r) S M Q := mw_iload_n ⟨dJ4_init_3, rfl⟩ rfl k
theorem dJ4_init_4 : decode cJ4_init 4 = .ok (.iload 4, 2) := dk_21 4 (dk_at dksJ4_init_0 4 rfl rfl)
theorem iJ4_init_4 {d : Nat} {r S : List MV} {M : MH} {Q : Out → MH → Prop} {w0 w1 w2 w3 : MV} {z : Int} (k : MW mJ4_init d 6 (w0 :: w1 :: w2 :: w3 :: vi z :: r) (vi z :: S) M Q) : MW mJ4_init d 4 (w0 :: w1 :: w2 :: w3 :: vi z :: r) S M Q := mw_iload ⟨dJ4_init_4, rfl⟩ rfl k
theorem dJ4_init_6 : decode cJ4_init 6 = .ok (.invokespecial 16, 3) := dk_183 0 16 (dk_at dksJ4_init_0 6 rfl rfl)
theorem iJ4_init_6 {d : Nat} {L S : List MV} {M : MH} {Q : Out → MH → Prop} {v1 v2 v3 v4 : MV} {b : Nat} {P : MH → Prop} (hM : MCv mJ3_init_2 d [vp b, v1, v2, v3, v4] M P) (k : ∀ M', P M' → MW mJ4_init (d + 1) 9 L S M' Q) (h8 : Nat.ble (S.map mcat).sum 8 = true := by rfl) : MW mJ4_init (d + 1) 6 L (v4 :: v3 :: v2 :: v1 :: vp b :: S) M Q := mw_callv (as := [vp b, v1, v2, v3, v4]) (site_I (Y' := mJ3_init_2) (n := 4) ⟨dJ4_init_6, rfl⟩ (Or.inl q461) q462 q463 rfl nJ3_init_2 hJ3_init_2 rfl) kJ3_init_2 (Nat.le_of_ble_eq_true h8) hM k
theorem dJ4_init_9 : decode cJ4_init 9 = .ok (.return_, 1) := dk_177 (dk_at dksJ4_init_0 9 rfl rfl)
theorem iJ4_init_9 {d : Nat} {L : List MV} {M : MH} {P : MH → Prop} (hq : P M) : MW mJ4_init d 9 L [] M (Rv P) := mw_retv ⟨dJ4_init_9, rfl⟩ rfl hq
/-! J4_init_2 -/
theorem dJ4_init_2 : decode cJ4_init 2 = .ok (.aload_n 2, 1) := dk_44 (dk_at dksJ4_init_0 2 rfl rfl)
def dkwJ4_init_2_0 : List UInt8 := [42, 43, 183, 0, 7, 177]
abbrev dktJ4_init_2_0 : List UInt8 := dkwJ4_init_2_0 ++ []
theorem dksJ4_init_2_0 : cJ4_init_2.data.toList.drop 0 = dktJ4_init_2_0 := by decide +kernel
theorem dJ4_init_2_0 : decode cJ4_init_2 0 = .ok (.aload_n 0, 1) := dk_42 (dk_at dksJ4_init_2_0 0 rfl rfl)
theorem iJ4_init_2_0 {d : Nat} {r S : List MV} {M : MH} {Q : Out → MH → Prop} {o : Option Nat} (k : MW mJ4_init_2 d 1 (vr o :: r) (vr o :: S) M Q) : MW mJ4_init_2 d 0 (vr o :: r) S M Q := mw_aload_n ⟨dJ4_init_2_0, rfl⟩ rfl k
theorem dJ4_init_2_1 : decode cJ4_init_2 1 = .ok (.aload_n 1, 1) := dk_43 (dk_at dksJ4_init_2_0 1 rfl rfl)
theorem iJ4_init_2_1 {d : Nat} {r S : List MV} {M : MH} {Q : Out → MH → Prop} {w0 : MV} {o : Option Nat} (k : MW mJ4_init_2 d 2 (w0 :: vr o :: r) (vr o :: S) M Q) : MW mJ4_init_2 d 1 (w0 :: vr o :: r) S M Q := mw_aload_n ⟨dJ4_init_2_1, rfl⟩ rfl k
theorem dJ4_init_2_2 : decode cJ4_init_2 2 = .ok (.invokespecial 7, 3) := dk_183 0 7 (dk_at dksJ4_init_2_0 2 rfl rfl)
theorem iJ4_init_2_2 {d : Nat} {L S : List MV} {M : MH} {Q : Out → MH → Prop} {v1 : MV} {b : Nat} {P : MH → Prop} (hM : MCv mJ3_init_3 d [vp b, v1] M P) (k : ∀ M', P M' → MW mJ4_init_2 (d + 1) 5 L S M' Q) (h8 : Nat.ble (S.map mcat).sum 8 = true := by rfl) : MW mJ4_init_2 (d + 1) 2 L (v1 :: vp b :: S) M Q := mw_callv (as := [vp b, v1]) (site_I (Y' := mJ3_init_3) (n := 1) ⟨dJ4_init_2_2, rfl⟩ (Or.inl q1055) q1056 q1057 rfl nJ3_init_3 hJ3_init_3 rfl) kJ3_init_3 (Nat.le_of_ble_eq_true h8) hM k
theorem dJ4_init_2_5 : decode cJ4_init_2 5 = .ok (.return_, 1) := dk_177 (dk_at dksJ4_init_2_0 5 rfl rfl)
theorem iJ4_init_2_5 {d : Nat} {L : List MV} {M : MH} {P : MH → Prop} (hq : P M) : MW mJ4_init_2 d 5 L [] M (Rv P) := mw_retv ⟨dJ4_init_2_5, rfl⟩ rfl hq
