set_option maxRecDepth 100000
/-! X1_init -/
def dkwX1_init_0 : List UInt8 := [42, 183, 0, 3, 42, 187, 0, 9, 89, 183, 0, 11, 181, 0, 12, 42, 27, 188, 10, 181, 0, 18, 177]
abbrev dktX1_init_0 : List UInt8 := dkwX1_init_0 ++ []
theorem dksX1_init_0 : cX1_init.data.toList.drop 0 = dktX1_init_0 := by decide +kernel
theorem dX1_init_0 : decode cX1_init 0 = .ok (.aload_n 0, 1) := dk_42 (dk_at dksX1_init_0 0 rfl rfl)
theorem iX1_init_0 {d : Nat} {r S : List MV} {M : MH} {Q : Out → MH → Prop} {o : Option Nat} (k : MW mX1_init d 1 (vr o :: r) (vr o :: S) M Q) : MW mX1_init d 0 (vr o :: r) S M Q := mw_aload_n ⟨dX1_init_0, rfl⟩ rfl k
theorem dX1_init_1 : decode cX1_init 1 = .ok (.invokespecial 3, 3) := dk_183 0 3 (dk_at dksX1_init_0 1 rfl rfl)
theorem iX1_init_1 {d : Nat} {L S : List MV} {M : MH} {Q : Out → MH → Prop} {a : Nat} (k : MW mX1_init (d + 1) 4 L S M Q) (h8 : Nat.ble (S.map mcat).sum 8 = true := by rfl) : MW mX1_init (d + 1) 1 L (vp a :: S) M Q := mw_objInit ⟨dX1_init_1, rfl⟩ q135 q125 q126 (Nat.le_of_ble_eq_true h8) k
theorem dX1_init_4 : decode cX1_init 4 = .ok (.aload_n 0, 1) := dk_42 (dk_at dksX1_init_0 4 rfl rfl)
theorem iX1_init_4 {d : Nat} {r S : List MV} {M : MH} {Q : Out → MH → Prop} {o : Option Nat} (k : MW mX1_init d 5 (vr o :: r) (vr o :: S) M Q) : MW mX1_init d 4 (vr o :: r) S M Q := mw_aload_n ⟨dX1_init_4, rfl⟩ rfl k
theorem dX1_init_5 : decode cX1_init 5 = .ok (.new 9, 3) := dk_187 0 9 (dk_at dksX1_init_0 5 rfl rfl)
theorem iX1_init_5 {d : Nat} {L S : List MV} {M : MH} {Q : Out → MH → Prop} (hcap : mhn M + 1 ≤ mNC) (hcas : mhs M + 3 ≤ mNS) (k : MW mX1_init d 8 L (vp (mhn M) :: S) (wN M 3 3) Q) : MW mX1_init d 5 L S M Q := mw_new (ci := 3) ⟨dX1_init_5, rfl⟩ rfl q136 q137 q95 hcap hcas k
theorem dX1_init_8 : decode cX1_init 8 = .ok (.dup, 1) := dk_89 (dk_at dksX1_init_0 8 rfl rfl)
theorem iX1_init_8 {d : Nat} {L S : List MV} {M : MH} {Q : Out → MH → Prop} {v : MV} (k : MW mX1_init d 9 L (v :: v :: S) M Q) (hv : mcat v = 1 := by rfl) : MW mX1_init d 8 L (v :: S) M Q := mw_dup ⟨dX1_init_8, rfl⟩ hv k
theorem dX1_init_9 : decode cX1_init 9 = .ok (.invokespecial 11, 3) := dk_183 0 11 (dk_at dksX1_init_0 9 rfl rfl)
theorem iX1_init_9 {d : Nat} {L S : List MV} {M : MH} {Q : Out → MH → Prop} {b : Nat} {P : MH → Prop} (hM : MCv mJ2_init d [vp b] M P) (k : ∀ M', P M' → MW mX1_init (d + 1) 12 L S M' Q) (h8 : Nat.ble (S.map mcat).sum 8 = true := by rfl) : MW mX1_init (d + 1) 9 L (vp b :: S) M Q := mw_callv (as := [vp b]) (site_I (Y' := mJ2_init) (n := 0) ⟨dX1_init_9, rfl⟩ (Or.inl q138) q139 q140 rfl nJ2_init hJ2_init rfl) kJ2_init (Nat.le_of_ble_eq_true h8) hM k
theorem dX1_init_12 : decode cX1_init 12 = .ok (.putfield 12, 3) := dk_181 0 12 (dk_at dksX1_init_0 12 rfl rfl)
theorem iX1_init_12_1 {d : Nat} {L S : List MV} {M : MH} {Q : Out → MH → Prop} {a : Nat} {o : Option Nat} (hs : (msh M a).1 = 1) (k : MW mX1_init d 15 L S (wR M a 5 o) Q) : MW mX1_init d 12 L (vr o :: vp a :: S) M Q := mw_putR (ci := 1) (k := 5) ⟨dX1_init_12, rfl⟩ ⟨_, rfl, Nat.le_of_ble_eq_true rfl, Or.inr ⟨rfl, rfl, rfl, q167⟩⟩ (Or.inl ⟨_, rfl⟩) hs k
theorem iX1_init_12_2 {d : Nat} {L S : List MV} {M : MH} {Q : Out → MH → Prop} {a : Nat} {o : Option Nat} (hs : (msh M a).1 = 2) (k : MW mX1_init d 15 L S (wR M a 5 o) Q) : MW mX1_init d 12 L (vr o :: vp a :: S) M Q := mw_putR (ci := 2) (k := 5) ⟨dX1_init_12, rfl⟩ ⟨_, rfl, Nat.le_of_ble_eq_true rfl, Or.inr ⟨rfl, rfl, rfl, q167⟩⟩ (Or.inl ⟨_, rfl⟩) hs k
theorem dX1_init_15 : decode cX1_init 15 = .ok (.aload_n 0, 1) := dk_42 (dk_at dksX1_init_0 15 rfl rfl)
theorem iX1_init_15 {d : Nat} {r S : List MV} {M : MH} {Q : Out → MH → Prop} {o : Option Nat} (k : MW mX1_init d 16 (vr o :: r) (vr o :: S) M Q) : MW mX1_init d 15 (vr o :: r) S M Q := mw_aload_n ⟨dX1_init_15, rfl⟩ rfl k
theorem dX1_init_16 : decode cX1_init 16 = .ok (.iload_n 1, 1) := dk_27 (dk_at dksX1_init_0 16 rfl rfl)
theorem iX1_init_16 {d : Nat} {r S : List MV} {M : MH} {Q : Out → MH → Prop} {w0 : MV} {z : Int} (k : MW mX1_init d 17 (w0 :: vi z :: r) (vi z :: S) M Q) : MW mX1_init d 16 (w0 :: vi z :: r) S M Q := mw_iload_n ⟨dX1_init_16, rfl⟩ rfl k
theorem dX1_init_17 : decode cX1_init 17 = .ok (.newarray .int, 2) := dk_188_10 (dk_at dksX1_init_0 17 rfl rfl)
theorem iX1_init_17 {d : Nat} {L S : List MV} {M : MH} {Q : Out → MH → Prop} {n : Nat} {z : Int} (hi : z = (n : Int)) (hn : n ≤ 100000) (hcap : mhn M + 1 ≤ mNC) (hcas : mhs M + n ≤ mNS) (k : MW mX1_init d 19 L (vp (mhn M) :: S) (wN M 100 n) Q) : MW mX1_init d 17 L (vi z :: S) M Q := mw_newarr (ak := 0) ⟨dX1_init_17, rfl⟩ rfl (by decide) q181 hi hn hcap hcas k
theorem dX1_init_19 : decode cX1_init 19 = .ok (.putfield 18, 3) := dk_181 0 18 (dk_at dksX1_init_0 19 rfl rfl)
theorem iX1_init_19_1 {d : Nat} {L S : List MV} {M : MH} {Q : Out → MH → Prop} {a : Nat} {o : Option Nat} (hs : (msh M a).1 = 1) (k : MW mX1_init d 22 L S (wR M a 0 o) Q) : MW mX1_init d 19 L (vr o :: vp a :: S) M Q := mw_putR (ci := 1) (k := 0) ⟨dX1_init_19, rfl⟩ ⟨_, rfl, Nat.le_of_ble_eq_true rfl, Or.inr ⟨rfl, rfl, rfl, q162⟩⟩ (Or.inr ⟨_, rfl⟩) hs k
theorem iX1_init_19_2 {d : Nat} {L S : List MV} {M : MH} {Q : Out → MH → Prop} {a : Nat} {o : Option Nat} (hs : (msh M a).1 = 2) (k : MW mX1_init d 22 L S (wR M a 0 o) Q) : MW mX1_init d 19 L (vr o :: vp a :: S) M Q := mw_putR (ci := 2) (k := 0) ⟨dX1_init_19, rfl⟩ ⟨_, rfl, Nat.le_of_ble_eq_true rfl, Or.inr ⟨rfl, rfl, rfl, q162⟩⟩ (Or.inr ⟨_, rfl⟩) hs k
theorem dX1_init_22 : decode cX1_init 22 = .ok (.return_, 1) := dk_177 (dk_at dksX1_init_0 22 rfl rfl)
theorem iX1_init_22 {d : Nat} {L : List MV} {M : MH} {P : MH → Prop} (hq : P M) : MW mX1_init d 22 L [] M (Rv P) := mw_retv ⟨dX1_init_22, rfl⟩ rfl hq
/-! X1_type -/
def dkwX1_type_1 : List UInt8 := [79, 42, 89, 180, 0, 22, 4, 96, 181, 0, 22, 42, 3, 181, 0, 26, 42, 180, 0, 22, 172]
abbrev dktX1_type_1 : List UInt8 := dkwX1_type_1 ++ []
def dkwX1_type_0 : List UInt8 := [42, 180, 0, 22, 42, 180, 0, 18, 190, 160, 0, 6, 16, 252, 172, 42, 180, 0, 18, 42, 180, 0, 22, 27]
abbrev dktX1_type_0 : List UInt8 := dkwX1_type_0 ++ dktX1_type_1
theorem dksX1_type_0 : cX1_type.data.toList.drop 0 = dktX1_type_0 := by decide +kernel
theorem dksX1_type_1 : cX1_type.data.toList.drop 24 = dktX1_type_1 := dk_seg dksX1_type_0 24 rfl rfl
theorem dX1_type_0 : decode cX1_type 0 = .ok (.aload_n 0, 1) := dk_42 (dk_at dksX1_type_0 0 rfl rfl)
theorem iX1_type_0 {d : Nat} {r S : List MV} {M : MH} {Q : Out → MH → Prop} {o : Option Nat} (k : MW mX1_type d 1 (vr o :: r) (vr o :: S) M Q) : MW mX1_type d 0 (vr o :: r) S M Q := mw_aload_n ⟨dX1_type_0, rfl⟩ rfl k
theorem dX1_type_1 : decode cX1_type 1 = .ok (.getfield 22, 3) := dk_180 0 22 (dk_at dksX1_type_0 1 rfl rfl)
theorem iX1_type_1_1 {d : Nat} {L S : List MV} {M : MH} {Q : Out → MH → Prop} {a : Nat} (hs : (msh M a).1 = 1) (k : MW mX1_type d 4 L (vi (miv M a 1) :: S) M Q) : MW mX1_type d 1 L (vp a :: S) M Q := mw_getI (ci := 1) (k := 1) ⟨dX1_type_1, rfl⟩ ⟨_, rfl, Nat.le_of_ble_eq_true rfl, Or.inl q163⟩ rfl hs k
theorem iX1_type_1_2 {d : Nat} {L S : List MV} {M : MH} {Q : Out → MH → Prop} {a : Nat} (hs : (msh M a).1 = 2) (k : MW mX1_type d 4 L (vi (miv M a 1) :: S) M Q) : MW mX1_type d 1 L (vp a :: S) M Q := mw_getI (ci := 2) (k := 1) ⟨dX1_type_1, rfl⟩ ⟨_, rfl, Nat.le_of_ble_eq_true rfl, Or.inl q163⟩ rfl hs k
theorem dX1_type_4 : decode cX1_type 4 = .ok (.aload_n 0, 1) := dk_42 (dk_at dksX1_type_0 4 rfl rfl)
theorem iX1_type_4 {d : Nat} {r S : List MV} {M : MH} {Q : Out → MH → Prop} {o : Option Nat} (k : MW mX1_type d 5 (vr o :: r) (vr o :: S) M Q) : MW mX1_type d 4 (vr o :: r) S M Q := mw_aload_n ⟨dX1_type_4, rfl⟩ rfl k
theorem dX1_type_5 : decode cX1_type 5 = .ok (.getfield 18, 3) := dk_180 0 18 (dk_at dksX1_type_0 5 rfl rfl)
theorem iX1_type_5_1 {d : Nat} {L S : List MV} {M : MH} {Q : Out → MH → Prop} {a : Nat} {o : Option Nat} (hs : (msh M a).1 = 1) (hr : mrv M a 0 = o) (k : MW mX1_type d 8 L (vr o :: S) M Q) : MW mX1_type d 5 L (vp a :: S) M Q := mw_getR (ci := 1) (k := 0) ⟨dX1_type_5, rfl⟩ ⟨_, rfl, Nat.le_of_ble_eq_true rfl, Or.inl q162⟩ rfl hs hr k
theorem iX1_type_5_2 {d : Nat} {L S : List MV} {M : MH} {Q : Out → MH → Prop} {a : Nat} {o : Option Nat} (hs : (msh M a).1 = 2) (hr : mrv M a 0 = o) (k : MW mX1_type d 8 L (vr o :: S) M Q) : MW mX1_type d 5 L (vp a :: S) M Q := mw_getR (ci := 2) (k := 0) ⟨dX1_type_5, rfl⟩ ⟨_, rfl, Nat.le_of_ble_eq_true rfl, Or.inl q162⟩ rfl hs hr k
theorem dX1_type_8 : decode cX1_type 8 = .ok (.arraylength, 1) := dk_190 (dk_at dksX1_type_0 8 rfl rfl)
theorem iX1_type_8 {d : Nat} {L S : List MV} {M : MH} {Q : Out → MH → Prop} {a n ak : Nat} (hs : msh M a = (100 + ak, n)) (k : MW mX1_type d 9 L (vi n :: S) M Q) : MW mX1_type d 8 L (vp a :: S) M Q := mw_alen ⟨dX1_type_8, rfl⟩ hs k
theorem iX1_type_8E {d : Nat} {L S : List MV} {M : MH} {Q : Out → MH → Prop} (k : MW mX1_type d 9 L (vi 0 :: S) M Q) : MW mX1_type d 8 L (vp 0 :: S) M Q := mw_alen0 ⟨dX1_type_8, rfl⟩ k
theorem dX1_type_9 : decode cX1_type 9 = .ok (.if_icmp .ne 6, 3) := dk_160 0 6 (dk_at dksX1_type_0 9 rfl rfl)
theorem iX1_type_9 {d : Nat} {L S : List MV} {M : MH} {Q : Out → MH → Prop} {a b : Int} (ha : inR a) (hb : inR b) (kt : a ≠ b → MW mX1_type d 15 L S M Q) (kf : a = b → MW mX1_type d 12 L S M Q) : MW mX1_type d 9 L (vi b :: vi a :: S) M Q := mw_icmp_ne ⟨dX1_type_9, rfl⟩ rfl ha hb kt kf
theorem dX1_type_12 : decode cX1_type 12 = .ok (.bipush (-4), 2) := dk_16 252 (dk_at dksX1_type_0 12 rfl rfl)
theorem iX1_type_12 {d : Nat} {L S : List MV} {M : MH} {Q : Out → MH → Prop}  (k : MW mX1_type d 14 (L) (vi (-4) :: S) M Q) : MW mX1_type d 12 (L) S M Q := mw_bipush ⟨dX1_type_12, rfl⟩ (by decide) k
theorem dX1_type_14 : decode cX1_type 14 = .ok (.ireturn, 1) := dk_172 (dk_at dksX1_type_0 14 rfl rfl)
theorem iX1_type_14 {d : Nat} {L : List MV} {M : MH} {P : Int → MH → Prop} {z : Int} (hq : P z M) : MW mX1_type d 14 L [vi z] M (Ri P) := mw_reti ⟨dX1_type_14, rfl⟩ rfl hq
theorem dX1_type_15 : decode cX1_type 15 = .ok (.aload_n 0, 1) := dk_42 (dk_at dksX1_type_0 15 rfl rfl)
theorem iX1_type_15 {d : Nat} {r S : List MV} {M : MH} {Q : Out → MH → Prop} {o : Option Nat} (k : MW mX1_type d 16 (vr o :: r) (vr o :: S) M Q) : MW mX1_type d 15 (vr o :: r) S M Q := mw_aload_n ⟨dX1_type_15, rfl⟩ rfl k
theorem dX1_type_16 : decode cX1_type 16 = .ok (.getfield 18, 3) := dk_180 0 18 (dk_at dksX1_type_0 16 rfl rfl)
theorem iX1_type_16_1 {d : Nat} {L S : List MV} {M : MH} {Q : Out → MH → Prop} {a : Nat} {o : Option Nat} (hs : (msh M a).1 = 1) (hr : mrv M a 0 = o) (k : MW mX1_type d 19 L (vr o :: S) M Q) : MW mX1_type d 16 L (vp a :: S) M Q := mw_getR (ci := 1) (k := 0) ⟨dX1_type_16, rfl⟩ ⟨_, rfl, Nat.le_of_ble_eq_true rfl, Or.inl q162⟩ rfl hs hr k
theorem iX1_type_16_2 {d : Nat} {L S : List MV} {M : MH} {Q : Out → MH → Prop} {a : Nat} {o : Option Nat} (hs : (msh M a).1 = 2) (hr : mrv M a 0 = o) (k : MW mX1_type d 19 L (vr o :: S) M Q) : MW mX1_type d 16 L (vp a :: S) M Q := mw_getR (ci := 2) (k := 0) ⟨dX1_type_16, rfl⟩ ⟨_, rfl, Nat.le_of_ble_eq_true rfl, Or.inl q162⟩ rfl hs hr k
theorem dX1_type_19 : decode cX1_type 19 = .ok (.aload_n 0, 1) := dk_42 (dk_at dksX1_type_0 19 rfl rfl)
theorem iX1_type_19 {d : Nat} {r S : List MV} {M : MH} {Q : Out → MH → Prop} {o : Option Nat} (k : MW mX1_type d 20 (vr o :: r) (vr o :: S) M Q) : MW mX1_type d 19 (vr o :: r) S M Q := mw_aload_n ⟨dX1_type_19, rfl⟩ rfl k
theorem dX1_type_20 : decode cX1_type 20 = .ok (.getfield 22, 3) := dk_180 0 22 (dk_at dksX1_type_0 20 rfl rfl)
theorem iX1_type_20_1 {d : Nat} {L S : List MV} {M : MH} {Q : Out → MH → Prop} {a : Nat} (hs : (msh M a).1 = 1) (k : MW mX1_type d 23 L (vi (miv M a 1) :: S) M Q) : MW mX1_type d 20 L (vp a :: S) M Q := mw_getI (ci := 1) (k := 1) ⟨dX1_type_20, rfl⟩ ⟨_, rfl, Nat.le_of_ble_eq_true rfl, Or.inl q163⟩ rfl hs k
theorem iX1_type_20_2 {d : Nat} {L S : List MV} {M : MH} {Q : Out → MH → Prop} {a : Nat} (hs : (msh M a).1 = 2) (k : MW mX1_type d 23 L (vi (miv M a 1) :: S) M Q) : MW mX1_type d 20 L (vp a :: S) M Q := mw_getI (ci := 2) (k := 1) ⟨dX1_type_20, rfl⟩ ⟨_, rfl, Nat.le_of_ble_eq_true rfl, Or.inl q163⟩ rfl hs k
theorem dX1_type_23 : decode cX1_type 23 = .ok (.iload_n 1, 1) := dk_27 (dk_at dksX1_type_0 23 rfl rfl)
theorem iX1_type_23 {d : Nat} {r S : List MV} {M : MH} {Q : Out → MH → Prop} {w0 : MV} {z : Int} (k : MW mX1_type d 24 (w0 :: vi z :: r) (vi z :: S) M Q) : MW mX1_type d 23 (w0 :: vi z :: r) S M Q := mw_iload_n ⟨dX1_type_23, rfl⟩ rfl k
theorem dX1_type_24 : decode cX1_type 24 = .ok (.iastore, 1) := dk_79 (dk_at dksX1_type_1 0 rfl rfl)
theorem iX1_type_24 {d : Nat} {L S : List MV} {M : MH} {Q : Out → MH → Prop} {a n : Nat} {z v : Int} (hs : msh M a = (100, n)) (hi : 0 ≤ z ∧ z < n) (k : MW mX1_type d 25 L S (wI M a z.toNat v) Q) (hn : Nat.ble n 2147483647 = true := by rfl) : MW mX1_type d 24 L (vi v :: vi z :: vp a :: S) M Q := mw_iastore ⟨dX1_type_24, rfl⟩ hs (Nat.le_of_ble_eq_true hn) hi k
theorem dX1_type_25 : decode cX1_type 25 = .ok (.aload_n 0, 1) := dk_42 (dk_at dksX1_type_1 1 rfl rfl)
theorem iX1_type_25 {d : Nat} {r S : List MV} {M : MH} {Q : Out → MH → Prop} {o : Option Nat} (k : MW mX1_type d 26 (vr o :: r) (vr o :: S) M Q) : MW mX1_type d 25 (vr o :: r) S M Q := mw_aload_n ⟨dX1_type_25, rfl⟩ rfl k
theorem dX1_type_26 : decode cX1_type 26 = .ok (.dup, 1) := dk_89 (dk_at dksX1_type_1 2 rfl rfl)
theorem iX1_type_26 {d : Nat} {L S : List MV} {M : MH} {Q : Out → MH → Prop} {v : MV} (k : MW mX1_type d 27 L (v :: v :: S) M Q) (hv : mcat v = 1 := by rfl) : MW mX1_type d 26 L (v :: S) M Q := mw_dup ⟨dX1_type_26, rfl⟩ hv k
theorem dX1_type_27 : decode cX1_type 27 = .ok (.getfield 22, 3) := dk_180 0 22 (dk_at dksX1_type_1 3 rfl rfl)
theorem iX1_type_27_1 {d : Nat} {L S : List MV} {M : MH} {Q : Out → MH → Prop} {a : Nat} (hs : (msh M a).1 = 1) (k : MW mX1_type d 30 L (vi (miv M a 1) :: S) M Q) : MW mX1_type d 27 L (vp a :: S) M Q := mw_getI (ci := 1) (k := 1) ⟨dX1_type_27, rfl⟩ ⟨_, rfl, Nat.le_of_ble_eq_true rfl, Or.inl q163⟩ rfl hs k
theorem iX1_type_27_2 {d : Nat} {L S : List MV} {M : MH} {Q : Out → MH → Prop} {a : Nat} (hs : (msh M a).1 = 2) (k : MW mX1_type d 30 L (vi (miv M a 1) :: S) M Q) : MW mX1_type d 27 L (vp a :: S) M Q := mw_getI (ci := 2) (k := 1) ⟨dX1_type_27, rfl⟩ ⟨_, rfl, Nat.le_of_ble_eq_true rfl, Or.inl q163⟩ rfl hs k
theorem dX1_type_30 : decode cX1_type 30 = .ok (.iconst 1, 1) := dk_4 (dk_at dksX1_type_1 6 rfl rfl)
theorem iX1_type_30 {d : Nat} {L S : List MV} {M : MH} {Q : Out → MH → Prop}  (k : MW mX1_type d 31 (L) (vi 1 :: S) M Q) : MW mX1_type d 30 (L) S M Q := mw_iconst ⟨dX1_type_30, rfl⟩ k
theorem dX1_type_31 : decode cX1_type 31 = .ok (.iadd, 1) := dk_96 (dk_at dksX1_type_1 7 rfl rfl)
theorem iX1_type_31 {d : Nat} {L S : List MV} {M : MH} {Q : Out → MH → Prop} {a b : Int} (k : MW mX1_type d 32 (L) (vi (a + b) :: S) M Q) : MW mX1_type d 31 (L) (vi b :: vi a :: S) M Q := mw_iadd ⟨dX1_type_31, rfl⟩ k
theorem dX1_type_32 : decode cX1_type 32 = .ok (.putfield 22, 3) := dk_181 0 22 (dk_at dksX1_type_1 8 rfl rfl)
theorem iX1_type_32_1 {d : Nat} {L S : List MV} {M : MH} {Q : Out → MH → Prop} {a : Nat} {z : Int} (hs : (msh M a).1 = 1) (k : MW mX1_type d 35 L S (wI M a 1 z) Q) : MW mX1_type d 32 L (vi z :: vp a :: S) M Q := mw_putI (ci := 1) (k := 1) ⟨dX1_type_32, rfl⟩ ⟨_, rfl, Nat.le_of_ble_eq_true rfl, Or.inl ⟨rfl, Or.inl q163⟩⟩ rfl hs k
theorem iX1_type_32_2 {d : Nat} {L S : List MV} {M : MH} {Q : Out → MH → Prop} {a : Nat} {z : Int} (hs : (msh M a).1 = 2) (k : MW mX1_type d 35 L S (wI M a 1 z) Q) : MW mX1_type d 32 L (vi z :: vp a :: S) M Q := mw_putI (ci := 2) (k := 1) ⟨dX1_type_32, rfl⟩ ⟨_, rfl, Nat.le_of_ble_eq_true rfl, Or.inl ⟨rfl, Or.inl q163⟩⟩ rfl hs k
theorem dX1_type_35 : decode cX1_type 35 = .ok (.aload_n 0, 1) := dk_42 (dk_at dksX1_type_1 11 rfl rfl)
theorem iX1_type_35 {d : Nat} {r S : List MV} {M : MH} {Q : Out → MH → Prop} {o : Option Nat} (k : MW mX1_type d 36 (vr o :: r) (vr o :: S) M Q) : MW mX1_type d 35 (vr o :: r) S M Q := mw_aload_n ⟨dX1_type_35, rfl⟩ rfl k
theorem dX1_type_36 : decode cX1_type 36 = .ok (.iconst 0, 1) := dk_3 (dk_at dksX1_type_1 12 rfl rfl)
theorem iX1_type_36 {d : Nat} {L S : List MV} {M : MH} {Q : Out → MH → Prop}  (k : MW mX1_type d 37 (L) (vi 0 :: S) M Q) : MW mX1_type d 36 (L) S M Q := mw_iconst ⟨dX1_type_36, rfl⟩ k
theorem dX1_type_37 : decode cX1_type 37 = .ok (.putfield 26, 3) := dk_181 0 26 (dk_at dksX1_type_1 13 rfl rfl)
theorem iX1_type_37_1 {d : Nat} {L S : List MV} {M : MH} {Q : Out → MH → Prop} {a : Nat} {z : Int} (hs : (msh M a).1 = 1) (hz : z = 0 ∨ z = 1) (k : MW mX1_type d 40 L S (wI M a 3 z) Q) : MW mX1_type d 37 L (vi z :: vp a :: S) M Q := mw_putZ (ci := 1) (k := 3) ⟨dX1_type_37, rfl⟩ ⟨_, rfl, Nat.le_of_ble_eq_true rfl, Or.inl ⟨rfl, Or.inl q165⟩⟩ rfl hs hz k
theorem iX1_type_37_2 {d : Nat} {L S : List MV} {M : MH} {Q : Out → MH → Prop} {a : Nat} {z : Int} (hs : (msh M a).1 = 2) (hz : z = 0 ∨ z = 1) (k : MW mX1_type d 40 L S (wI M a 3 z) Q) : MW mX1_type d 37 L (vi z :: vp a :: S) M Q := mw_putZ (ci := 2) (k := 3) ⟨dX1_type_37, rfl⟩ ⟨_, rfl, Nat.le_of_ble_eq_true rfl, Or.inl ⟨rfl, Or.inl q165⟩⟩ rfl hs hz k
theorem dX1_type_40 : decode cX1_type 40 = .ok (.aload_n 0, 1) := dk_42 (dk_at dksX1_type_1 16 rfl rfl)
theorem iX1_type_40 {d : Nat} {r S : List MV} {M : MH} {Q : Out → MH → Prop} {o : Option Nat} (k : MW mX1_type d 41 (vr o :: r) (vr o :: S) M Q) : MW mX1_type d 40 (vr o :: r) S M Q := mw_aload_n ⟨dX1_type_40, rfl⟩ rfl k
theorem dX1_type_41 : decode cX1_type 41 = .ok (.getfield 22, 3) := dk_180 0 22 (dk_at dksX1_type_1 17 rfl rfl)
theorem iX1_type_41_1 {d : Nat} {L S : List MV} {M : MH} {Q : Out → MH → Prop} {a : Nat} (hs : (msh M a).1 = 1) (k : MW mX1_type d 44 L (vi (miv M a 1) :: S) M Q) : MW mX1_type d 41 L (vp a :: S) M Q := mw_getI (ci := 1) (k := 1) ⟨dX1_type_41, rfl⟩ ⟨_, rfl, Nat.le_of_ble_eq_true rfl, Or.inl q163⟩ rfl hs k
theorem iX1_type_41_2 {d : Nat} {L S : List MV} {M : MH} {Q : Out → MH → Prop} {a : Nat} (hs : (msh M a).1 = 2) (k : MW mX1_type d 44 L (vi (miv M a 1) :: S) M Q) : MW mX1_type d 41 L (vp a :: S) M Q := mw_getI (ci := 2) (k := 1) ⟨dX1_type_41, rfl⟩ ⟨_, rfl, Nat.le_of_ble_eq_true rfl, Or.inl q163⟩ rfl hs k
theorem dX1_type_44 : decode cX1_type 44 = .ok (.ireturn, 1) := dk_172 (dk_at dksX1_type_1 20 rfl rfl)
theorem iX1_type_44 {d : Nat} {L : List MV} {M : MH} {P : Int → MH → Prop} {z : Int} (hq : P z M) : MW mX1_type d 44 L [vi z] M (Ri P) := mw_reti ⟨dX1_type_44, rfl⟩ rfl hq
/-! X1_wipe -/
def dkwX1_wipe_0 : List UInt8 := [42, 180, 0, 22, 60, 42, 3, 181, 0, 22, 42, 3, 181, 0, 26, 27, 172]
abbrev dktX1_wipe_0 : List UInt8 := dkwX1_wipe_0 ++ []
theorem dksX1_wipe_0 : cX1_wipe.data.toList.drop 0 = dktX1_wipe_0 := by decide +kernel
theorem dX1_wipe_0 : decode cX1_wipe 0 = .ok (.aload_n 0, 1) := dk_42 (dk_at dksX1_wipe_0 0 rfl rfl)
theorem iX1_wipe_0 {d : Nat} {r S : List MV} {M : MH} {Q : Out → MH → Prop} {o : Option Nat} (k : MW mX1_wipe d 1 (vr o :: r) (vr o :: S) M Q) : MW mX1_wipe d 0 (vr o :: r) S M Q := mw_aload_n ⟨dX1_wipe_0, rfl⟩ rfl k
theorem dX1_wipe_1 : decode cX1_wipe 1 = .ok (.getfield 22, 3) := dk_180 0 22 (dk_at dksX1_wipe_0 1 rfl rfl)
theorem iX1_wipe_1_1 {d : Nat} {L S : List MV} {M : MH} {Q : Out → MH → Prop} {a : Nat} (hs : (msh M a).1 = 1) (k : MW mX1_wipe d 4 L (vi (miv M a 1) :: S) M Q) : MW mX1_wipe d 1 L (vp a :: S) M Q := mw_getI (ci := 1) (k := 1) ⟨dX1_wipe_1, rfl⟩ ⟨_, rfl, Nat.le_of_ble_eq_true rfl, Or.inl q163⟩ rfl hs k
theorem iX1_wipe_1_2 {d : Nat} {L S : List MV} {M : MH} {Q : Out → MH → Prop} {a : Nat} (hs : (msh M a).1 = 2) (k : MW mX1_wipe d 4 L (vi (miv M a 1) :: S) M Q) : MW mX1_wipe d 1 L (vp a :: S) M Q := mw_getI (ci := 2) (k := 1) ⟨dX1_wipe_1, rfl⟩ ⟨_, rfl, Nat.le_of_ble_eq_true rfl, Or.inl q163⟩ rfl hs k
theorem dX1_wipe_4 : decode cX1_wipe 4 = .ok (.istore_n 1, 1) := dk_60 (dk_at dksX1_wipe_0 4 rfl rfl)
theorem iX1_wipe_4 {d : Nat} {r S : List MV} {M : MH} {Q : Out → MH → Prop} {w0 : MV} {z : Int} {v : MV} (k : MW mX1_wipe d 5 (w0 :: vi z :: r) S M Q) (hok : okSt (w0 :: v :: r) 1 = true := by rfl) : MW mX1_wipe d 4 (w0 :: v :: r) (vi z :: S) M Q := mw_istore_n (i := 1) ⟨dX1_wipe_4, rfl⟩ rfl (Nat.le_of_ble_eq_true rfl) hok k
theorem dX1_wipe_5 : decode cX1_wipe 5 = .ok (.aload_n 0, 1) := dk_42 (dk_at dksX1_wipe_0 5 rfl rfl)
theorem iX1_wipe_5 {d : Nat} {r S : List MV} {M : MH} {Q : Out → MH → Prop} {o : Option Nat} (k : MW mX1_wipe d 6 (vr o :: r) (vr o :: S) M Q) : MW mX1_wipe d 5 (vr o :: r) S M Q := mw_aload_n ⟨dX1_wipe_5, rfl⟩ rfl k
theorem dX1_wipe_6 : decode cX1_wipe 6 = .ok (.iconst 0, 1) := dk_3 (dk_at dksX1_wipe_0 6 rfl rfl)
theorem iX1_wipe_6 {d : Nat} {L S : List MV} {M : MH} {Q : Out → MH → Prop}  (k : MW mX1_wipe d 7 (L) (vi 0 :: S) M Q) : MW mX1_wipe d 6 (L) S M Q := mw_iconst ⟨dX1_wipe_6, rfl⟩ k
theorem dX1_wipe_7 : decode cX1_wipe 7 = .ok (.putfield 22, 3) := dk_181 0 22 (dk_at dksX1_wipe_0 7 rfl rfl)
theorem iX1_wipe_7_1 {d : Nat} {L S : List MV} {M : MH} {Q : Out → MH → Prop} {a : Nat} {z : Int} (hs : (msh M a).1 = 1) (k : MW mX1_wipe d 10 L S (wI M a 1 z) Q) : MW mX1_wipe d 7 L (vi z :: vp a :: S) M Q := mw_putI (ci := 1) (k := 1) ⟨dX1_wipe_7, rfl⟩ ⟨_, rfl, Nat.le_of_ble_eq_true rfl, Or.inl ⟨rfl, Or.inl q163⟩⟩ rfl hs k
theorem iX1_wipe_7_2 {d : Nat} {L S : List MV} {M : MH} {Q : Out → MH → Prop} {a : Nat} {z : Int} (hs : (msh M a).1 = 2) (k : MW mX1_wipe d 10 L S (wI M a 1 z) Q) : MW mX1_wipe d 7 L (vi z :: vp a :: S) M Q := mw_putI (ci := 2) (k := 1) ⟨dX1_wipe_7, rfl⟩ ⟨_, rfl, Nat.le_of_ble_eq_true rfl, Or.inl ⟨rfl, Or.inl q163⟩⟩ rfl hs k
theorem dX1_wipe_10 : decode cX1_wipe 10 = .ok (.aload_n 0, 1) := dk_42 (dk_at dksX1_wipe_0 10 rfl rfl)
theorem iX1_wipe_10 {d : Nat} {r S : List MV} {M : MH} {Q : Out → MH → Prop} {o : Option Nat} (k : MW mX1_wipe d 11 (vr o :: r) (vr o :: S) M Q) : MW mX1_wipe d 10 (vr o :: r) S M Q := mw_aload_n ⟨dX1_wipe_10, rfl⟩ rfl k
theorem dX1_wipe_11 : decode cX1_wipe 11 = .ok (.iconst 0, 1) := dk_3 (dk_at dksX1_wipe_0 11 rfl rfl)
theorem iX1_wipe_11 {d : Nat} {L S : List MV} {M : MH} {Q : Out → MH → Prop}  (k : MW mX1_wipe d 12 (L) (vi 0 :: S) M Q) : MW mX1_wipe d 11 (L) S M Q := mw_iconst ⟨dX1_wipe_11, rfl⟩ k
theorem dX1_wipe_12 : decode cX1_wipe 12 = .ok (.putfield 26, 3) := dk_181 0 26 (dk_at dksX1_wipe_0 12 rfl rfl)
theorem iX1_wipe_12_1 {d : Nat} {L S : List MV} {M : MH} {Q : Out → MH → Prop} {a : Nat} {z : Int} (hs : (msh M a).1 = 1) (hz : z = 0 ∨ z = 1) (k : MW mX1_wipe d 15 L S (wI M a 3 z) Q) : MW mX1_wipe d 12 L (vi z :: vp a :: S) M Q := mw_putZ (ci := 1) (k := 3) ⟨dX1_wipe_12, rfl⟩ ⟨_, rfl, Nat.le_of_ble_eq_true rfl, Or.inl ⟨rfl, Or.inl q165⟩⟩ rfl hs hz k
theorem iX1_wipe_12_2 {d : Nat} {L S : List MV} {M : MH} {Q : Out → MH → Prop} {a : Nat} {z : Int} (hs : (msh M a).1 = 2) (hz : z = 0 ∨ z = 1) (k : MW mX1_wipe d 15 L S (wI M a 3 z) Q) : MW mX1_wipe d 12 L (vi z :: vp a :: S) M Q := mw_putZ (ci := 2) (k := 3) ⟨dX1_wipe_12, rfl⟩ ⟨_, rfl, Nat.le_of_ble_eq_true rfl, Or.inl ⟨rfl, Or.inl q165⟩⟩ rfl hs hz k
theorem dX1_wipe_15 : decode cX1_wipe 15 = .ok (.iload_n 1, 1) := dk_27 (dk_at dksX1_wipe_0 15 rfl rfl)
theorem iX1_wipe_15 {d : Nat} {r S : List MV} {M : MH} {Q : Out → MH → Prop} {w0 : MV} {z : Int} (k : MW mX1_wipe d 16 (w0 :: vi z :: r) (vi z :: S) M Q) : MW mX1_wipe d 15 (w0 :: vi z :: r) S M Q := mw_iload_n ⟨dX1_wipe_15, rfl⟩ rfl k
theorem dX1_wipe_16 : decode cX1_wipe 16 = .ok (.ireturn, 1) := dk_172 (dk_at dksX1_wipe_0 16 rfl rfl)
theorem iX1_wipe_16 {d : Nat} {L : List MV} {M : MH} {P : Int → MH → Prop} {z : Int} (hq : P z M) : MW mX1_wipe d 16 L [vi z] M (Ri P) := mw_reti ⟨dX1_wipe_16, rfl⟩ rfl hq
/-! X1_read -/
def dkwX1_read_1 : List UInt8 := [172]
abbrev dktX1_read_1 : List UInt8 := dkwX1_read_1 ++ []
def dkwX1_read_0 : List UInt8 := [42, 180, 0, 26, 154, 0, 11, 42, 42, 182, 0, 77, 181, 0, 80, 42, 4, 181, 0, 26, 42, 180, 0, 80]
abbrev dktX1_read_0 : List UInt8 := dkwX1_read_0 ++ dktX1_read_1
theorem dksX1_read_0 : cX1_read.data.toList.drop 0 = dktX1_read_0 := by decide +kernel
theorem dksX1_read_1 : cX1_read.data.toList.drop 24 = dktX1_read_1 := dk_seg dksX1_read_0 24 rfl rfl
theorem dX1_read_0 : decode cX1_read 0 = .ok (.aload_n 0, 1) := dk_42 (dk_at dksX1_read_0 0 rfl rfl)
theorem iX1_read_0 {d : Nat} {r S : List MV} {M : MH} {Q : Out → MH → Prop} {o : Option Nat} (k : MW mX1_read d 1 (vr o :: r) (vr o :: S) M Q) : MW mX1_read d 0 (vr o :: r) S M Q := mw_aload_n ⟨dX1_read_0, rfl⟩ rfl k
theorem dX1_read_1 : decode cX1_read 1 = .ok (.getfield 26, 3) := dk_180 0 26 (dk_at dksX1_read_0 1 rfl rfl)
theorem iX1_read_1_1 {d : Nat} {L S : List MV} {M : MH} {Q : Out → MH → Prop} {a : Nat} (hs : (msh M a).1 = 1) (k : MW mX1_read d 4 L (vi (miv M a 3) :: S) M Q) : MW mX1_read d 1 L (vp a :: S) M Q := mw_getI (ci := 1) (k := 3) ⟨dX1_read_1, rfl⟩ ⟨_, rfl, Nat.le_of_ble_eq_true rfl, Or.inl q165⟩ rfl hs k
theorem iX1_read_1_2 {d : Nat} {L S : List MV} {M : MH} {Q : Out → MH → Prop} {a : Nat} (hs : (msh M a).1 = 2) (k : MW mX1_read d 4 L (vi (miv M a 3) :: S) M Q) : MW mX1_read d 1 L (vp a :: S) M Q := mw_getI (ci := 2) (k := 3) ⟨dX1_read_1, rfl⟩ ⟨_, rfl, Nat.le_of_ble_eq_true rfl, Or.inl q165⟩ rfl hs k
theorem dX1_read_4 : decode cX1_read 4 = .ok (.ifCond .ne 11, 3) := dk_154 0 11 (dk_at dksX1_read_0 4 rfl rfl)
theorem iX1_read_4 {d : Nat} {L S : List MV} {M : MH} {Q : Out → MH → Prop} {a : Int} (ha : inR a) (kt : a ≠ 0 → MW mX1_read d 15 L S M Q) (kf : a = 0 → MW mX1_read d 7 L S M Q) : MW mX1_read d 4 L (vi a :: S) M Q := mw_if_ne ⟨dX1_read_4, rfl⟩ rfl ha kt kf
theorem dX1_read_7 : decode cX1_read 7 = .ok (.aload_n 0, 1) := dk_42 (dk_at dksX1_read_0 7 rfl rfl)
theorem iX1_read_7 {d : Nat} {r S : List MV} {M : MH} {Q : Out → MH → Prop} {o : Option Nat} (k : MW mX1_read d 8 (vr o :: r) (vr o :: S) M Q) : MW mX1_read d 7 (vr o :: r) S M Q := mw_aload_n ⟨dX1_read_7, rfl⟩ rfl k
theorem dX1_read_8 : decode cX1_read 8 = .ok (.aload_n 0, 1) := dk_42 (dk_at dksX1_read_0 8 rfl rfl)
theorem iX1_read_8 {d : Nat} {r S : List MV} {M : MH} {Q : Out → MH → Prop} {o : Option Nat} (k : MW mX1_read d 9 (vr o :: r) (vr o :: S) M Q) : MW mX1_read d 8 (vr o :: r) S M Q := mw_aload_n ⟨dX1_read_8, rfl⟩ rfl k
theorem dX1_read_9 : decode cX1_read 9 = .ok (.invokevirtual 77, 3) := dk_182 0 77 (dk_at dksX1_read_0 9 rfl rfl)
theorem dX1_read_12 : decode cX1_read 12 = .ok (.putfield 80, 3) := dk_181 0 80 (dk_at dksX1_read_0 12 rfl rfl)
theorem iX1_read_12_1 {d : Nat} {L S : List MV} {M : MH} {Q : Out → MH → Prop} {a : Nat} {z : Int} (hs : (msh M a).1 = 1) (k : MW mX1_read d 15 L S (wI M a 4 z) Q) : MW mX1_read d 12 L (vi z :: vp a :: S) M Q := mw_putI (ci := 1) (k := 4) ⟨dX1_read_12, rfl⟩ ⟨_, rfl, Nat.le_of_ble_eq_true rfl, Or.inl ⟨rfl, Or.inl q166⟩⟩ rfl hs k
theorem iX1_read_12_2 {d : Nat} {L S : List MV} {M : MH} {Q : Out → MH → Prop} {a : Nat} {z : Int} (hs : (msh M a).1 = 2) (k : MW mX1_read d 15 L S (wI M a 4 z) Q) : MW mX1_read d 12 L (vi z :: vp a :: S) M Q := mw_putI (ci := 2) (k := 4) ⟨dX1_read_12, rfl⟩ ⟨_, rfl, Nat.le_of_ble_eq_true rfl, Or.inl ⟨rfl, Or.inl q166⟩⟩ rfl hs k
theorem dX1_read_15 : decode cX1_read 15 = .ok (.aload_n 0, 1) := dk_42 (dk_at dksX1_read_0 15 rfl rfl)
theorem iX1_read_15 {d : Nat} {r S : List MV} {M : MH} {Q : Out → MH → Prop} {o : Option Nat} (k : MW mX1_read d 16 (vr o :: r) (vr o :: S) M Q) : MW mX1_read d 15 (vr o :: r) S M Q := mw_aload_n ⟨dX1_read_15, rfl⟩ rfl k
theorem dX1_read_16 : decode cX1_read 16 = .ok (.iconst 1, 1) := dk_4 (dk_at dksX1_read_0 16 rfl rfl)
theorem iX1_read_16 {d : Nat} {L S : List MV} {M : MH} {Q : Out → MH → Prop}  (k : MW mX1_read d 17 (L) (vi 1 :: S) M Q) : MW mX1_read d 16 (L) S M Q := mw_iconst ⟨dX1_read_16, rfl⟩ k
theorem dX1_read_17 : decode cX1_read 17 = .ok (.putfield 26, 3) := dk_181 0 26 (dk_at dksX1_read_0 17 rfl rfl)
theorem iX1_read_17_1 {d : Nat} {L S : List MV} {M : MH} {Q : Out → MH → Prop} {a : Nat} {z : Int} (hs : (msh M a).1 = 1) (hz : z = 0 ∨ z = 1) (k : MW mX1_read d 20 L S (wI M a 3 z) Q) : MW mX1_read d 17 L (vi z :: vp a :: S) M Q := mw_putZ (ci := 1) (k := 3) ⟨dX1_read_17, rfl⟩ ⟨_, rfl, Nat.le_of_ble_eq_true rfl, Or.inl ⟨rfl, Or.inl q165⟩⟩ rfl hs hz k
theorem iX1_read_17_2 {d : Nat} {L S : List MV} {M : MH} {Q : Out → MH → Prop} {a : Nat} {z : Int} (hs : (msh M a).1 = 2) (hz : z = 0 ∨ z = 1) (k : MW mX1_read d 20 L S (wI M a 3 z) Q) : MW mX1_read d 17 L (vi z :: vp a :: S) M Q := mw_putZ (ci := 2) (k := 3) ⟨dX1_read_17, rfl⟩ ⟨_, rfl, Nat.le_of_ble_eq_true rfl, Or.inl ⟨rfl, Or.inl q165⟩⟩ rfl hs hz k
theorem dX1_read_20 : decode cX1_read 20 = .ok (.aload_n 0, 1) := dk_42 (dk_at dksX1_read_0 20 rfl rfl)
theorem iX1_read_20 {d : Nat} {r S : List MV} {M : MH} {Q : Out → MH → Prop} {o : Option Nat} (k : MW mX1_read d 21 (vr o :: r) (vr o :: S) M Q) : MW mX1_read d 20 (vr o :: r) S M Q := mw_aload_n ⟨dX1_read_20, rfl⟩ rfl k
theorem dX1_read_21 : decode cX1_read 21 = .ok (.getfield 80, 3) := dk_180 0 80 (dk_at dksX1_read_0 21 rfl rfl)
theorem iX1_read_21_1 {d : Nat} {L S : List MV} {M : MH} {Q : Out → MH → Prop} {a : Nat} (hs : (msh M a).1 = 1) (k : MW mX1_read d 24 L (vi (miv M a 4) :: S) M Q) : MW mX1_read d 21 L (vp a :: S) M Q := mw_getI (ci := 1) (k := 4) ⟨dX1_read_21, rfl⟩ ⟨_, rfl, Nat.le_of_ble_eq_true rfl, Or.inl q166⟩ rfl hs k
theorem iX1_read_21_2 {d : Nat} {L S : List MV} {M : MH} {Q : Out → MH → Prop} {a : Nat} (hs : (msh M a).1 = 2) (k : MW mX1_read d 24 L (vi (miv M a 4) :: S) M Q) : MW mX1_read d 21 L (vp a :: S) M Q := mw_getI (ci := 2) (k := 4) ⟨dX1_read_21, rfl⟩ ⟨_, rfl, Nat.le_of_ble_eq_true rfl, Or.inl q166⟩ rfl hs k
theorem dX1_read_24 : decode cX1_read 24 = .ok (.ireturn, 1) := dk_172 (dk_at dksX1_read_1 0 rfl rfl)
theorem iX1_read_24 {d : Nat} {L : List MV} {M : MH} {P : Int → MH → Prop} {z : Int} (hq : P z M) : MW mX1_read d 24 L [vi z] M (Ri P) := mw_reti ⟨dX1_read_24, rfl⟩ rfl hq
/-! X1_all -/
def dkwX1_all_1 : List UInt8 := [182, 0, 71, 167, 255, 241, 2, 172, 76, 42, 180, 0, 12, 182, 0, 68, 43, 180, 0, 74, 172]
abbrev dktX1_all_1 : List UInt8 := dkwX1_all_1 ++ []
def dkwX1_all_0 : List UInt8 := [42, 3, 181, 0, 30, 42, 180, 0, 12, 182, 0, 68, 42, 180, 0, 30, 42, 180, 0, 22, 162, 0, 10, 42]
abbrev dktX1_all_0 : List UInt8 := dkwX1_all_0 ++ dktX1_all_1
theorem dksX1_all_0 : cX1_all.data.toList.drop 0 = dktX1_all_0 := by decide +kernel
theorem dksX1_all_1 : cX1_all.data.toList.drop 24 = dktX1_all_1 := dk_seg dksX1_all_0 24 rfl rfl
theorem dX1_all_0 : decode cX1_all 0 = .ok (.aload_n 0, 1) := dk_42 (dk_at dksX1_all_0 0 rfl rfl)
theorem iX1_all_0 {d : Nat} {r S : List MV} {M : MH} {Q : Out → MH → Prop} {o : Option Nat} (k : MW mX1_all d 1 (vr o :: r) (vr o :: S) M Q) : MW mX1_all d 0 (vr o :: r) S M Q := mw_aload_n ⟨dX1_all_0, rfl⟩ rfl k
theorem dX1_all_1 : decode cX1_all 1 = .ok (.iconst 0, 1) := dk_3 (dk_at dksX1_all_0 1 rfl rfl)
theorem iX1_all_1 {d : Nat} {L S : List MV} {M : MH} {Q : Out → MH → Prop}  (k : MW mX1_all d 2 (L) (vi 0 :: S) M Q) : MW mX1_all d 1 (L) S M Q := mw_iconst ⟨dX1_all_1, rfl⟩ k
theorem dX1_all_2 : decode cX1_all 2 = .ok (.putfield 30, 3) := dk_181 0 30 (dk_at dksX1_all_0 2 rfl rfl)
theorem iX1_all_2_1 {d : Nat} {L S : List MV} {M : MH} {Q : Out → MH → Prop} {a : Nat} {z : Int} (hs : (msh M a).1 = 1) (k : MW mX1_all d 5 L S (wI M a 2 z) Q) : MW mX1_all d 2 L (vi z :: vp a :: S) M Q := mw_putI (ci := 1) (k := 2) ⟨dX1_all_2, rfl⟩ ⟨_, rfl, Nat.le_of_ble_eq_true rfl, Or.inl ⟨rfl, Or.inl q164⟩⟩ rfl hs k
theorem iX1_all_2_2 {d : Nat} {L S : List MV} {M : MH} {Q : Out → MH → Prop} {a : Nat} {z : Int} (hs : (msh M a).1 = 2) (k : MW mX1_all d 5 L S (wI M a 2 z) Q) : MW mX1_all d 2 L (vi z :: vp a :: S) M Q := mw_putI (ci := 2) (k := 2) ⟨dX1_all_2, rfl⟩ ⟨_, rfl, Nat.le_of_ble_eq_true rfl, Or.inl ⟨rfl, Or.inl q164⟩⟩ rfl hs k
theorem dX1_all_5 : decode cX1_all 5 = .ok (.aload_n 0, 1) := dk_42 (dk_at dksX1_all_0 5 rfl rfl)
theorem iX1_all_5 {d : Nat} {r S : List MV} {M : MH} {Q : Out → MH → Prop} {o : Option Nat} (k : MW mX1_all d 6 (vr o :: r) (vr o :: S) M Q) : MW mX1_all d 5 (vr o :: r) S M Q := mw_aload_n ⟨dX1_all_5, rfl⟩ rfl k
theorem dX1_all_6 : decode cX1_all 6 = .ok (.getfield 12, 3) := dk_180 0 12 (dk_at dksX1_all_0 6 rfl rfl)
theorem iX1_all_6_1 {d : Nat} {L S : List MV} {M : MH} {Q : Out → MH → Prop} {a : Nat} {o : Option Nat} (hs : (msh M a).1 = 1) (hr : mrv M a 5 = o) (k : MW mX1_all d 9 L (vr o :: S) M Q) : MW mX1_all d 6 L (vp a :: S) M Q := mw_getR (ci := 1) (k := 5) ⟨dX1_all_6, rfl⟩ ⟨_, rfl, Nat.le_of_ble_eq_true rfl, Or.inl q167⟩ rfl hs hr k
theorem iX1_all_6_2 {d : Nat} {L S : List MV} {M : MH} {Q : Out → MH → Prop} {a : Nat} {o : Option Nat} (hs : (msh M a).1 = 2) (hr : mrv M a 5 = o) (k : MW mX1_all d 9 L (vr o :: S) M Q) : MW mX1_all d 6 L (vp a :: S) M Q := mw_getR (ci := 2) (k := 5) ⟨dX1_all_6, rfl⟩ ⟨_, rfl, Nat.le_of_ble_eq_true rfl, Or.inl q167⟩ rfl hs hr k
theorem dX1_all_9 : decode cX1_all 9 = .ok (.invokevirtual 68, 3) := dk_182 0 68 (dk_at dksX1_all_0 9 rfl rfl)
theorem iX1_all_9 {d : Nat} {L S : List MV} {M : MH} {Q : Out → MH → Prop} {b : Nat} {P : MH → Prop} (hs : (msh M b).1 = 3) (hM : MCv mJ2_clear d [vp b] M P) (k : ∀ M', P M' → MW mX1_all (d + 1) 12 L S M' Q) (h8 : Nat.ble (S.map mcat).sum 8 = true := by rfl) : MW mX1_all (d + 1) 9 L (vp b :: S) M Q := mw_callv (as := [vp b]) (site_V (Y' := mJ2_clear) (n := 0) ⟨dX1_all_9, rfl⟩ (Or.inl q383) q384 q385 wJ2_clear nJ2_clear hJ2_clear (cls_of (ci := 3) rfl hs) rfl) kJ2_clear (Nat.le_of_ble_eq_true h8) hM k
theorem dX1_all_12 : decode cX1_all 12 = .ok (.aload_n 0, 1) := dk_42 (dk_at dksX1_all_0 12 rfl rfl)
theorem iX1_all_12 {d : Nat} {r S : List MV} {M : MH} {Q : Out → MH → Prop} {o : Option Nat} (k : MW mX1_all d 13 (vr o :: r) (vr o :: S) M Q) : MW mX1_all d 12 (vr o :: r) S M Q := mw_aload_n ⟨dX1_all_12, rfl⟩ rfl k
theorem dX1_all_13 : decode cX1_all 13 = .ok (.getfield 30, 3) := dk_180 0 30 (dk_at dksX1_all_0 13 rfl rfl)
theorem iX1_all_13_1 {d : Nat} {L S : List MV} {M : MH} {Q : Out → MH → Prop} {a : Nat} (hs : (msh M a).1 = 1) (k : MW mX1_all d 16 L (vi (miv M a 2) :: S) M Q) : MW mX1_all d 13 L (vp a :: S) M Q := mw_getI (ci := 1) (k := 2) ⟨dX1_all_13, rfl⟩ ⟨_, rfl, Nat.le_of_ble_eq_true rfl, Or.inl q164⟩ rfl hs k
theorem iX1_all_13_2 {d : Nat} {L S : List MV} {M : MH} {Q : Out → MH → Prop} {a : Nat} (hs : (msh M a).1 = 2) (k : MW mX1_all d 16 L (vi (miv M a 2) :: S) M Q) : MW mX1_all d 13 L (vp a :: S) M Q := mw_getI (ci := 2) (k := 2) ⟨dX1_all_13, rfl⟩ ⟨_, rfl, Nat.le_of_ble_eq_true rfl, Or.inl q164⟩ rfl hs k
theorem dX1_all_16 : decode cX1_all 16 = .ok (.aload_n 0, 1) := dk_42 (dk_at dksX1_all_0 16 rfl rfl)
theorem iX1_all_16 {d : Nat} {r S : List MV} {M : MH} {Q : Out → MH → Prop} {o : Option Nat} (k : MW mX1_all d 17 (vr o :: r) (vr o :: S) M Q) : MW mX1_all d 16 (vr o :: r) S M Q := mw_aload_n ⟨dX1_all_16, rfl⟩ rfl k
theorem dX1_all_17 : decode cX1_all 17 = .ok (.getfield 22, 3) := dk_180 0 22 (dk_at dksX1_all_0 17 rfl rfl)
theorem iX1_all_17_1 {d : Nat} {L S : List MV} {M : MH} {Q : Out → MH → Prop} {a : Nat} (hs : (msh M a).1 = 1) (k : MW mX1_all d 20 L (vi (miv M a 1) :: S) M Q) : MW mX1_all d 17 L (vp a :: S) M Q := mw_getI (ci := 1) (k := 1) ⟨dX1_all_17, rfl⟩ ⟨_, rfl, Nat.le_of_ble_eq_true rfl, Or.inl q163⟩ rfl hs k
theorem iX1_all_17_2 {d : Nat} {L S : List MV} {M : MH} {Q : Out → MH → Prop} {a : Nat} (hs : (msh M a).1 = 2) (k : MW mX1_all d 20 L (vi (miv M a 1) :: S) M Q) : MW mX1_all d 17 L (vp a :: S) M Q := mw_getI (ci := 2) (k := 1) ⟨dX1_all_17, rfl⟩ ⟨_, rfl, Nat.le_of_ble_eq_true rfl, Or.inl q163⟩ rfl hs k
theorem dX1_all_20 : decode cX1_all 20 = .ok (.if_icmp .ge 10, 3) := dk_162 0 10 (dk_at dksX1_all_0 20 rfl rfl)
theorem iX1_all_20 {d : Nat} {L S : List MV} {M : MH} {Q : Out → MH → Prop} {a b : Int} (ha : inR a) (hb : inR b) (kt : b ≤ a → MW mX1_all d 30 L S M Q) (kf : ¬ b ≤ a → MW mX1_all d 23 L S M Q) : MW mX1_all d 20 L (vi b :: vi a :: S) M Q := mw_icmp_ge ⟨dX1_all_20, rfl⟩ rfl ha hb kt kf
theorem dX1_all_23 : decode cX1_all 23 = .ok (.aload_n 0, 1) := dk_42 (dk_at dksX1_all_0 23 rfl rfl)
theorem iX1_all_23 {d : Nat} {r S : List MV} {M : MH} {Q : Out → MH → Prop} {o : Option Nat} (k : MW mX1_all d 24 (vr o :: r) (vr o :: S) M Q) : MW mX1_all d 23 (vr o :: r) S M Q := mw_aload_n ⟨dX1_all_23, rfl⟩ rfl k
theorem dX1_all_24 : decode cX1_all 24 = .ok (.invokevirtual 71, 3) := dk_182 0 71 (dk_at dksX1_all_1 0 rfl rfl)
theorem dX1_all_27 : decode cX1_all 27 = .ok (.goto (-15), 3) := dk_167 255 241 (dk_at dksX1_all_1 3 rfl rfl)
theorem iX1_all_27 {d : Nat} {L S : List MV} {M : MH} {Q : Out → MH → Prop}  (k : MW mX1_all d 12 (L) S M Q) : MW mX1_all d 27 (L) S M Q := mw_goto ⟨dX1_all_27, rfl⟩ rfl k
theorem dX1_all_30 : decode cX1_all 30 = .ok (.iconst (-1), 1) := dk_2 (dk_at dksX1_all_1 6 rfl rfl)
theorem iX1_all_30 {d : Nat} {L S : List MV} {M : MH} {Q : Out → MH → Prop}  (k : MW mX1_all d 31 (L) (vi (-1) :: S) M Q) : MW mX1_all d 30 (L) S M Q := mw_iconst ⟨dX1_all_30, rfl⟩ k
theorem dX1_all_31 : decode cX1_all 31 = .ok (.ireturn, 1) := dk_172 (dk_at dksX1_all_1 7 rfl rfl)
theorem iX1_all_31 {d : Nat} {L : List MV} {M : MH} {P : Int → MH → Prop} {z : Int} (hq : P z M) : MW mX1_all d 31 L [vi z] M (Ri P) := mw_reti ⟨dX1_all_31, rfl⟩ rfl hq
theorem dX1_all_32 : decode cX1_all 32 = .ok (.astore_n 1, 1) := dk_76 (dk_at dksX1_all_1 8 rfl rfl)
theorem iX1_all_32 {d : Nat} {r S : List MV} {M : MH} {Q : Out → MH → Prop} {w0 : MV} {o : Option Nat} {v : MV} (k : MW mX1_all d 33 (w0 :: vr o :: r) S M Q) (hok : okSt (w0 :: v :: r) 1 = true := by rfl) : MW mX1_all d 32 (w0 :: v :: r) (vr o :: S) M Q := mw_astore_n (i := 1) ⟨dX1_all_32, rfl⟩ rfl (Nat.le_of_ble_eq_true rfl) hok k
theorem dX1_all_33 : decode cX1_all 33 = .ok (.aload_n 0, 1) := dk_42 (dk_at dksX1_all_1 9 rfl rfl)
theorem iX1_all_33 {d : Nat} {r S : List MV} {M : MH} {Q : Out → MH → Prop} {o : Option Nat} (k : MW mX1_all d 34 (vr o :: r) (vr o :: S) M Q) : MW mX1_all d 33 (vr o :: r) S M Q := mw_aload_n ⟨dX1_all_33, rfl⟩ rfl k
theorem dX1_all_34 : decode cX1_all 34 = .ok (.getfield 12, 3) := dk_180 0 12 (dk_at dksX1_all_1 10 rfl rfl)
theorem iX1_all_34_1 {d : Nat} {L S : List MV} {M : MH} {Q : Out → MH → Prop} {a : Nat} {o : Option Nat} (hs : (msh M a).1 = 1) (hr : mrv M a 5 = o) (k : MW mX1_all d 37 L (vr o :: S) M Q) : MW mX1_all d 34 L (vp a :: S) M Q := mw_getR (ci := 1) (k := 5) ⟨dX1_all_34, rfl⟩ ⟨_, rfl, Nat.le_of_ble_eq_true rfl, Or.inl q167⟩ rfl hs hr k
theorem iX1_all_34_2 {d : Nat} {L S : List MV} {M : MH} {Q : Out → MH → Prop} {a : Nat} {o : Option Nat} (hs : (msh M a).1 = 2) (hr : mrv M a 5 = o) (k : MW mX1_all d 37 L (vr o :: S) M Q) : MW mX1_all d 34 L (vp a :: S) M Q := mw_getR (ci := 2) (k := 5) ⟨dX1_all_34, rfl⟩ ⟨_, rfl, Nat.le_of_ble_eq_true rfl, Or.inl q167⟩ rfl hs hr k
theorem dX1_all_37 : decode cX1_all 37 = .ok (.invokevirtual 68, 3) := dk_182 0 68 (dk_at dksX1_all_1 13 rfl rfl)
theorem iX1_all_37 {d : Nat} {L S : List MV} {M : MH} {Q : Out → MH → Prop} {b : Nat} {P : MH → Prop} (hs : (msh M b).1 = 3) (hM : MCv mJ2_clear d [vp b] M P) (k : ∀ M', P M' → MW mX1_all (d + 1) 40 L S M' Q) (h8 : Nat.ble (S.map mcat).sum 8 = true := by rfl) : MW mX1_all (d + 1) 37 L (vp b :: S) M Q := mw_callv (as := [vp b]) (site_V (Y' := mJ2_clear) (n := 0) ⟨dX1_all_37, rfl⟩ (Or.inl q383) q384 q385 wJ2_clear nJ2_clear hJ2_clear (cls_of (ci := 3) rfl hs) rfl) kJ2_clear (Nat.le_of_ble_eq_true h8) hM k
theorem dX1_all_40 : decode cX1_all 40 = .ok (.aload_n 1, 1) := dk_43 (dk_at dksX1_all_1 16 rfl rfl)
theorem iX1_all_40 {d : Nat} {r S : List MV} {M : MH} {Q : Out → MH → Prop} {w0 : MV} {o : Option Nat} (k : MW mX1_all d 41 (w0 :: vr o :: r) (vr o :: S) M Q) : MW mX1_all d 40 (w0 :: vr o :: r) S M Q := mw_aload_n ⟨dX1_all_40, rfl⟩ rfl k
theorem dX1_all_41 : decode cX1_all 41 = .ok (.getfield 74, 3) := dk_180 0 74 (dk_at dksX1_all_1 17 rfl rfl)
theorem iX1_all_41 {d : Nat} {L S : List MV} {M : MH} {Q : Out → MH → Prop} {a : Nat} (hs : (msh M a).1 = 9) (k : MW mX1_all d 44 L (vi (miv M a 6) :: S) M Q) : MW mX1_all d 41 L (vp a :: S) M Q := mw_getI (ci := 9) (k := 6) ⟨dX1_all_41, rfl⟩ ⟨_, rfl, Nat.le_of_ble_eq_true rfl, Or.inr (Or.inr ⟨_, lw_b q465 rfl⟩)⟩ rfl hs k
theorem dX1_all_44 : decode cX1_all 44 = .ok (.ireturn, 1) := dk_172 (dk_at dksX1_all_1 20 rfl rfl)
theorem iX1_all_44 {d : Nat} {L : List MV} {M : MH} {P : Int → MH → Prop} {z : Int} (hq : P z M) : MW mX1_all d 44 L [vi z] M (Ri P) := mw_reti ⟨dX1_all_44, rfl⟩ rfl hq
/-! X1_next -/
def dkwX1_next_3 : List UInt8 := [182, 0, 64, 87, 177]
abbrev dktX1_next_3 : List UInt8 := dkwX1_next_3 ++ []
def dkwX1_next_2 : List UInt8 := [180, 0, 12, 182, 0, 57, 16, 8, 160, 0, 8, 42, 182, 0, 46, 191, 42, 180, 0, 12, 42, 182, 0, 60]
abbrev dktX1_next_2 : List UInt8 := dkwX1_next_2 ++ dktX1_next_3
def dkwX1_next_1 : List UInt8 := [182, 0, 54, 159, 0, 8, 42, 182, 0, 46, 191, 42, 89, 180, 0, 30, 4, 96, 181, 0, 30, 42]
abbrev dktX1_next_1 : List UInt8 := dkwX1_next_1 ++ dktX1_next_2
def dkwX1_next_0 : List UInt8 := [42, 180, 0, 12, 182, 0, 50, 154, 0, 37, 42, 182, 0, 54, 2, 159, 0, 29, 42, 182, 0, 38, 42]
abbrev dktX1_next_0 : List UInt8 := dkwX1_next_0 ++ dktX1_next_1
theorem dksX1_next_0 : cX1_next.data.toList.drop 0 = dktX1_next_0 := by decide +kernel
theorem dksX1_next_1 : cX1_next.data.toList.drop 23 = dktX1_next_1 := dk_seg dksX1_next_0 23 rfl rfl
theorem dksX1_next_2 : cX1_next.data.toList.drop 45 = dktX1_next_2 := dk_seg dksX1_next_1 22 rfl rfl
theorem dksX1_next_3 : cX1_next.data.toList.drop 69 = dktX1_next_3 := dk_seg dksX1_next_2 24 rfl rfl
theorem dX1_next_0 : decode cX1_next 0 = .ok (.aload_n 0, 1) := dk_42 (dk_at dksX1_next_0 0 rfl rfl)
theorem iX1_next_0 {d : Nat} {r S : List MV} {M : MH} {Q : Out → MH → Prop} {o : Option Nat} (k : MW mX1_next d 1 (vr o :: r) (vr o :: S) M Q) : MW mX1_next d 0 (vr o :: r) S M Q := mw_aload_n ⟨dX1_next_0, rfl⟩ rfl k
theorem dX1_next_1 : decode cX1_next 1 = .ok (.getfield 12, 3) := dk_180 0 12 (dk_at dksX1_next_0 1 rfl rfl)
theorem iX1_next_1_1 {d : Nat} {L S : List MV} {M : MH} {Q : Out → MH → Prop} {a : Nat} {o : Option Nat} (hs : (msh M a).1 = 1) (hr : mrv M a 5 = o) (k : MW mX1_next d 4 L (vr o :: S) M Q) : MW mX1_next d 1 L (vp a :: S) M Q := mw_getR (ci := 1) (k := 5) ⟨dX1_next_1, rfl⟩ ⟨_, rfl, Nat.le_of_ble_eq_true rfl, Or.inl q167⟩ rfl hs hr k
theorem iX1_next_1_2 {d : Nat} {L S : List MV} {M : MH} {Q : Out → MH → Prop} {a : Nat} {o : Option Nat} (hs : (msh M a).1 = 2) (hr : mrv M a 5 = o) (k : MW mX1_next d 4 L (vr o :: S) M Q) : MW mX1_next d 1 L (vp a :: S) M Q := mw_getR (ci := 2) (k := 5) ⟨dX1_next_1, rfl⟩ ⟨_, rfl, Nat.le_of_ble_eq_true rfl, Or.inl q167⟩ rfl hs hr k
theorem dX1_next_4 : decode cX1_next 4 = .ok (.invokevirtual 50, 3) := dk_182 0 50 (dk_at dksX1_next_0 4 rfl rfl)
theorem iX1_next_4 {d : Nat} {L S : List MV} {M : MH} {Q : Out → MH → Prop} {b : Nat} {P : Int → MH → Prop} (hs : (msh M b).1 = 3) (hM : MCi mJ2_isEmpty d [vp b] M P) (k : ∀ z M', P z M' → MW mX1_next (d + 1) 7 L (vi z :: S) M' Q) (h8 : Nat.ble (S.map mcat).sum 8 = true := by rfl) : MW mX1_next (d + 1) 4 L (vp b :: S) M Q := mw_calli (as := [vp b]) (site_V (Y' := mJ2_isEmpty) (n := 0) ⟨dX1_next_4, rfl⟩ (Or.inl q391) q392 q393 wJ2_isEmpty nJ2_isEmpty hJ2_isEmpty (cls_of (ci := 3) rfl hs) rfl) kJ2_isEmpty (Nat.le_of_ble_eq_true h8) hM k
theorem dX1_next_7 : decode cX1_next 7 = .ok (.ifCond .ne 37, 3) := dk_154 0 37 (dk_at dksX1_next_0 7 rfl rfl)
theorem iX1_next_7 {d : Nat} {L S : List MV} {M : MH} {Q : Out → MH → Prop} {a : Int} (ha : inR a) (kt : a ≠ 0 → MW mX1_next d 44 L S M Q) (kf : a = 0 → MW mX1_next d 10 L S M Q) : MW mX1_next d 7 L (vi a :: S) M Q := mw_if_ne ⟨dX1_next_7, rfl⟩ rfl ha kt kf
theorem dX1_next_10 : decode cX1_next 10 = .ok (.aload_n 0, 1) := dk_42 (dk_at dksX1_next_0 10 rfl rfl)
theorem iX1_next_10 {d : Nat} {r S : List MV} {M : MH} {Q : Out → MH → Prop} {o : Option Nat} (k : MW mX1_next d 11 (vr o :: r) (vr o :: S) M Q) : MW mX1_next d 10 (vr o :: r) S M Q := mw_aload_n ⟨dX1_next_10, rfl⟩ rfl k
theorem dX1_next_11 : decode cX1_next 11 = .ok (.invokevirtual 54, 3) := dk_182 0 54 (dk_at dksX1_next_0 11 rfl rfl)
theorem iX1_next_11_1 {d : Nat} {L S : List MV} {M : MH} {Q : Out → MH → Prop} {b : Nat} {P : Int → MH → Prop} (hs : (msh M b).1 = 1) (hM : MCi mX2_between d [vp b] M P) (k : ∀ z M', P z M' → MW mX1_next (d + 1) 14 L (vi z :: S) M' Q) (h8 : Nat.ble (S.map mcat).sum 8 = true := by rfl) : MW mX1_next (d + 1) 11 L (vp b :: S) M Q := mw_calli (as := [vp b]) (site_U (Y' := mX2_between) (n := 0) (x := ⟨"SoldWithIt$Text", "between", "()I"⟩) ⟨dX1_next_11, rfl⟩ q395 q397 (Or.inl (lw_b q396 rfl)) ⟨by decide +kernel, by decide +kernel⟩ q402 q401 wX2_between rfl nX2_between (cls_of (ci := 1) rfl hs) rfl) kX2_between (Nat.le_of_ble_eq_true h8) hM k
theorem iX1_next_11_2 {d : Nat} {L S : List MV} {M : MH} {Q : Out → MH → Prop} {b : Nat} {P : Int → MH → Prop} (hs : (msh M b).1 = 2) (hM : MCi mX3_between d [vp b] M P) (k : ∀ z M', P z M' → MW mX1_next (d + 1) 14 L (vi z :: S) M' Q) (h8 : Nat.ble (S.map mcat).sum 8 = true := by rfl) : MW mX1_next (d + 1) 11 L (vp b :: S) M Q := mw_calli (as := [vp b]) (site_U (Y' := mX3_between) (n := 0) (x := ⟨"SoldWithIt$Text", "between", "()I"⟩) ⟨dX1_next_11, rfl⟩ q395 q397 (Or.inl (lw_b q396 rfl)) ⟨by decide +kernel, by decide +kernel⟩ q399 q398 wX3_between rfl nX3_between (cls_of (ci := 2) rfl hs) rfl) kX3_between (Nat.le_of_ble_eq_true h8) hM k
theorem dX1_next_14 : decode cX1_next 14 = .ok (.iconst (-1), 1) := dk_2 (dk_at dksX1_next_0 14 rfl rfl)
theorem iX1_next_14 {d : Nat} {L S : List MV} {M : MH} {Q : Out → MH → Prop}  (k : MW mX1_next d 15 (L) (vi (-1) :: S) M Q) : MW mX1_next d 14 (L) S M Q := mw_iconst ⟨dX1_next_14, rfl⟩ k
theorem dX1_next_15 : decode cX1_next 15 = .ok (.if_icmp .eq 29, 3) := dk_159 0 29 (dk_at dksX1_next_0 15 rfl rfl)
theorem iX1_next_15 {d : Nat} {L S : List MV} {M : MH} {Q : Out → MH → Prop} {a b : Int} (ha : inR a) (hb : inR b) (kt : a = b → MW mX1_next d 44 L S M Q) (kf : ¬ a = b → MW mX1_next d 18 L S M Q) : MW mX1_next d 15 L (vi b :: vi a :: S) M Q := mw_icmp_eq ⟨dX1_next_15, rfl⟩ rfl ha hb kt kf
theorem dX1_next_18 : decode cX1_next 18 = .ok (.aload_n 0, 1) := dk_42 (dk_at dksX1_next_0 18 rfl rfl)
theorem iX1_next_18 {d : Nat} {r S : List MV} {M : MH} {Q : Out → MH → Prop} {o : Option Nat} (k : MW mX1_next d 19 (vr o :: r) (vr o :: S) M Q) : MW mX1_next d 18 (vr o :: r) S M Q := mw_aload_n ⟨dX1_next_18, rfl⟩ rfl k
theorem dX1_next_19 : decode cX1_next 19 = .ok (.invokevirtual 38, 3) := dk_182 0 38 (dk_at dksX1_next_0 19 rfl rfl)
theorem iX1_next_19_1 {d : Nat} {L S : List MV} {M : MH} {Q : Out → MH → Prop} {b : Nat} {P : Int → MH → Prop} (hs : (msh M b).1 = 1) (hM : MCi mX1_here d [vp b] M P) (k : ∀ z M', P z M' → MW mX1_next (d + 1) 22 L (vi z :: S) M' Q) (h8 : Nat.ble (S.map mcat).sum 8 = true := by rfl) : MW mX1_next (d + 1) 19 L (vp b :: S) M Q := mw_calli (as := [vp b]) (site_V (Y' := mX1_here) (n := 0) ⟨dX1_next_19, rfl⟩ (Or.inl q404) q405 q408 wX1_here nX1_here hX1_here (cls_of (ci := 1) rfl hs) rfl) kX1_here (Nat.le_of_ble_eq_true h8) hM k
theorem iX1_next_19_2 {d : Nat} {L S : List MV} {M : MH} {Q : Out → MH → Prop} {b : Nat} {P : Int → MH → Prop} (hs : (msh M b).1 = 2) (hM : MCi mX1_here d [vp b] M P) (k : ∀ z M', P z M' → MW mX1_next (d + 1) 22 L (vi z :: S) M' Q) (h8 : Nat.ble (S.map mcat).sum 8 = true := by rfl) : MW mX1_next (d + 1) 19 L (vp b :: S) M Q := mw_calli (as := [vp b]) (site_V (Y' := mX1_here) (n := 0) ⟨dX1_next_19, rfl⟩ (Or.inl q404) q405 q407 wX1_here nX1_here hX1_here (cls_of (ci := 2) rfl hs) rfl) kX1_here (Nat.le_of_ble_eq_true h8) hM k
theorem dX1_next_22 : decode cX1_next 22 = .ok (.aload_n 0, 1) := dk_42 (dk_at dksX1_next_0 22 rfl rfl)
theorem iX1_next_22 {d : Nat} {r S : List MV} {M : MH} {Q : Out → MH → Prop} {o : Option Nat} (k : MW mX1_next d 23 (vr o :: r) (vr o :: S) M Q) : MW mX1_next d 22 (vr o :: r) S M Q := mw_aload_n ⟨dX1_next_22, rfl⟩ rfl k
theorem dX1_next_23 : decode cX1_next 23 = .ok (.invokevirtual 54, 3) := dk_182 0 54 (dk_at dksX1_next_1 0 rfl rfl)
theorem iX1_next_23_1 {d : Nat} {L S : List MV} {M : MH} {Q : Out → MH → Prop} {b : Nat} {P : Int → MH → Prop} (hs : (msh M b).1 = 1) (hM : MCi mX2_between d [vp b] M P) (k : ∀ z M', P z M' → MW mX1_next (d + 1) 26 L (vi z :: S) M' Q) (h8 : Nat.ble (S.map mcat).sum 8 = true := by rfl) : MW mX1_next (d + 1) 23 L (vp b :: S) M Q := mw_calli (as := [vp b]) (site_U (Y' := mX2_between) (n := 0) (x := ⟨"SoldWithIt$Text", "between", "()I"⟩) ⟨dX1_next_23, rfl⟩ q395 q397 (Or.inl (lw_b q396 rfl)) ⟨by decide +kernel, by decide +kernel⟩ q402 q401 wX2_between rfl nX2_between (cls_of (ci := 1) rfl hs) rfl) kX2_between (Nat.le_of_ble_eq_true h8) hM k
theorem iX1_next_23_2 {d : Nat} {L S : List MV} {M : MH} {Q : Out → MH → Prop} {b : Nat} {P : Int → MH → Prop} (hs : (msh M b).1 = 2) (hM : MCi mX3_between d [vp b] M P) (k : ∀ z M', P z M' → MW mX1_next (d + 1) 26 L (vi z :: S) M' Q) (h8 : Nat.ble (S.map mcat).sum 8 = true := by rfl) : MW mX1_next (d + 1) 23 L (vp b :: S) M Q := mw_calli (as := [vp b]) (site_U (Y' := mX3_between) (n := 0) (x := ⟨"SoldWithIt$Text", "between", "()I"⟩) ⟨dX1_next_23, rfl⟩ q395 q397 (Or.inl (lw_b q396 rfl)) ⟨by decide +kernel, by decide +kernel⟩ q399 q398 wX3_between rfl nX3_between (cls_of (ci := 2) rfl hs) rfl) kX3_between (Nat.le_of_ble_eq_true h8) hM k
theorem dX1_next_26 : decode cX1_next 26 = .ok (.if_icmp .eq 8, 3) := dk_159 0 8 (dk_at dksX1_next_1 3 rfl rfl)
theorem iX1_next_26 {d : Nat} {L S : List MV} {M : MH} {Q : Out → MH → Prop} {a b : Int} (ha : inR a) (hb : inR b) (kt : a = b → MW mX1_next d 34 L S M Q) (kf : ¬ a = b → MW mX1_next d 29 L S M Q) : MW mX1_next d 26 L (vi b :: vi a :: S) M Q := mw_icmp_eq ⟨dX1_next_26, rfl⟩ rfl ha hb kt kf
theorem dX1_next_29 : decode cX1_next 29 = .ok (.aload_n 0, 1) := dk_42 (dk_at dksX1_next_1 6 rfl rfl)
theorem iX1_next_29 {d : Nat} {r S : List MV} {M : MH} {Q : Out → MH → Prop} {o : Option Nat} (k : MW mX1_next d 30 (vr o :: r) (vr o :: S) M Q) : MW mX1_next d 29 (vr o :: r) S M Q := mw_aload_n ⟨dX1_next_29, rfl⟩ rfl k
theorem dX1_next_30 : decode cX1_next 30 = .ok (.invokevirtual 46, 3) := dk_182 0 46 (dk_at dksX1_next_1 7 rfl rfl)
theorem iX1_next_30_1 {d : Nat} {L S : List MV} {M : MH} {Q : Out → MH → Prop} {b : Nat} {P : Option Nat → MH → Prop} (hs : (msh M b).1 = 1) (hM : MCr mX1_torn d [vp b] M P) (k : ∀ o M', P o M' → MW mX1_next (d + 1) 33 L (vr o :: S) M' Q) (h8 : Nat.ble (S.map mcat).sum 8 = true := by rfl) : MW mX1_next (d + 1) 30 L (vp b :: S) M Q := mw_callr (as := [vp b]) (site_V (Y' := mX1_torn) (n := 0) ⟨dX1_next_30, rfl⟩ (Or.inl q410) q411 q414 wX1_torn nX1_torn hX1_torn (cls_of (ci := 1) rfl hs) rfl) kX1_torn (Nat.le_of_ble_eq_true h8) hM k
theorem iX1_next_30_2 {d : Nat} {L S : List MV} {M : MH} {Q : Out → MH → Prop} {b : Nat} {P : Option Nat → MH → Prop} (hs : (msh M b).1 = 2) (hM : MCr mX1_torn d [vp b] M P) (k : ∀ o M', P o M' → MW mX1_next (d + 1) 33 L (vr o :: S) M' Q) (h8 : Nat.ble (S.map mcat).sum 8 = true := by rfl) : MW mX1_next (d + 1) 30 L (vp b :: S) M Q := mw_callr (as := [vp b]) (site_V (Y' := mX1_torn) (n := 0) ⟨dX1_next_30, rfl⟩ (Or.inl q410) q411 q413 wX1_torn nX1_torn hX1_torn (cls_of (ci := 2) rfl hs) rfl) kX1_torn (Nat.le_of_ble_eq_true h8) hM k
theorem dX1_next_33 : decode cX1_next 33 = .ok (.athrow, 1) := dk_191 (dk_at dksX1_next_1 10 rfl rfl)
theorem dX1_next_34 : decode cX1_next 34 = .ok (.aload_n 0, 1) := dk_42 (dk_at dksX1_next_1 11 rfl rfl)
theorem iX1_next_34 {d : Nat} {r S : List MV} {M : MH} {Q : Out → MH → Prop} {o : Option Nat} (k : MW mX1_next d 35 (vr o :: r) (vr o :: S) M Q) : MW mX1_next d 34 (vr o :: r) S M Q := mw_aload_n ⟨dX1_next_34, rfl⟩ rfl k
theorem dX1_next_35 : decode cX1_next 35 = .ok (.dup, 1) := dk_89 (dk_at dksX1_next_1 12 rfl rfl)
theorem iX1_next_35 {d : Nat} {L S : List MV} {M : MH} {Q : Out → MH → Prop} {v : MV} (k : MW mX1_next d 36 L (v :: v :: S) M Q) (hv : mcat v = 1 := by rfl) : MW mX1_next d 35 L (v :: S) M Q := mw_dup ⟨dX1_next_35, rfl⟩ hv k
theorem dX1_next_36 : decode cX1_next 36 = .ok (.getfield 30, 3) := dk_180 0 30 (dk_at dksX1_next_1 13 rfl rfl)
theorem iX1_next_36_1 {d : Nat} {L S : List MV} {M : MH} {Q : Out → MH → Prop} {a : Nat} (hs : (msh M a).1 = 1) (k : MW mX1_next d 39 L (vi (miv M a 2) :: S) M Q) : MW mX1_next d 36 L (vp a :: S) M Q := mw_getI (ci := 1) (k := 2) ⟨dX1_next_36, rfl⟩ ⟨_, rfl, Nat.le_of_ble_eq_true rfl, Or.inl q164⟩ rfl hs k
theorem iX1_next_36_2 {d : Nat} {L S : List MV} {M : MH} {Q : Out → MH → Prop} {a : Nat} (hs : (msh M a).1 = 2) (k : MW mX1_next d 39 L (vi (miv M a 2) :: S) M Q) : MW mX1_next d 36 L (vp a :: S) M Q := mw_getI (ci := 2) (k := 2) ⟨dX1_next_36, rfl⟩ ⟨_, rfl, Nat.le_of_ble_eq_true rfl, Or.inl q164⟩ rfl hs k
theorem dX1_next_39 : decode cX1_next 39 = .ok (.iconst 1, 1) := dk_4 (dk_at dksX1_next_1 16 rfl rfl)
theorem iX1_next_39 {d : Nat} {L S : List MV} {M : MH} {Q : Out → MH → Prop}  (k : MW mX1_next d 40 (L) (vi 1 :: S) M Q) : MW mX1_next d 39 (L) S M Q := mw_iconst ⟨dX1_next_39, rfl⟩ k
theorem dX1_next_40 : decode cX1_next 40 = .ok (.iadd, 1) := dk_96 (dk_at dksX1_next_1 17 rfl rfl)
theorem iX1_next_40 {d : Nat} {L S : List MV} {M : MH} {Q : Out → MH → Prop} {a b : Int} (k : MW mX1_next d 41 (L) (vi (a + b) :: S) M Q) : MW mX1_next d 40 (L) (vi b :: vi a :: S) M Q := mw_iadd ⟨dX1_next_40, rfl⟩ k
theorem dX1_next_41 : decode cX1_next 41 = .ok (.putfield 30, 3) := dk_181 0 30 (dk_at dksX1_next_1 18 rfl rfl)
theorem iX1_next_41_1 {d : Nat} {L S : List MV} {M : MH} {Q : Out → MH → Prop} {a : Nat} {z : Int} (hs : (msh M a).1 = 1) (k : MW mX1_next d 44 L S (wI M a 2 z) Q) : MW mX1_next d 41 L (vi z :: vp a :: S) M Q := mw_putI (ci := 1) (k := 2) ⟨dX1_next_41, rfl⟩ ⟨_, rfl, Nat.le_of_ble_eq_true rfl, Or.inl ⟨rfl, Or.inl q164⟩⟩ rfl hs k
theorem iX1_next_41_2 {d : Nat} {L S : List MV} {M : MH} {Q : Out → MH → Prop} {a : Nat} {z : Int} (hs : (msh M a).1 = 2) (k : MW mX1_next d 44 L S (wI M a 2 z) Q) : MW mX1_next d 41 L (vi z :: vp a :: S) M Q := mw_putI (ci := 2) (k := 2) ⟨dX1_next_41, rfl⟩ ⟨_, rfl, Nat.le_of_ble_eq_true rfl, Or.inl ⟨rfl, Or.inl q164⟩⟩ rfl hs k
theorem dX1_next_44 : decode cX1_next 44 = .ok (.aload_n 0, 1) := dk_42 (dk_at dksX1_next_1 21 rfl rfl)
theorem iX1_next_44 {d : Nat} {r S : List MV} {M : MH} {Q : Out → MH → Prop} {o : Option Nat} (k : MW mX1_next d 45 (vr o :: r) (vr o :: S) M Q) : MW mX1_next d 44 (vr o :: r) S M Q := mw_aload_n ⟨dX1_next_44, rfl⟩ rfl k
theorem dX1_next_45 : decode cX1_next 45 = .ok (.getfield 12, 3) := dk_180 0 12 (dk_at dksX1_next_2 0 rfl rfl)
theorem iX1_next_45_1 {d : Nat} {L S : List MV} {M : MH} {Q : Out → MH → Prop} {a : Nat} {o : Option Nat} (hs : (msh M a).1 = 1) (hr : mrv M a 5 = o) (k : MW mX1_next d 48 L (vr o :: S) M Q) : MW mX1_next d 45 L (vp a :: S) M Q := mw_getR (ci := 1) (k := 5) ⟨dX1_next_45, rfl⟩ ⟨_, rfl, Nat.le_of_ble_eq_true rfl, Or.inl q167⟩ rfl hs hr k
theorem iX1_next_45_2 {d : Nat} {L S : List MV} {M : MH} {Q : Out → MH → Prop} {a : Nat} {o : Option Nat} (hs : (msh M a).1 = 2) (hr : mrv M a 5 = o) (k : MW mX1_next d 48 L (vr o :: S) M Q) : MW mX1_next d 45 L (vp a :: S) M Q := mw_getR (ci := 2) (k := 5) ⟨dX1_next_45, rfl⟩ ⟨_, rfl, Nat.le_of_ble_eq_true rfl, Or.inl q167⟩ rfl hs hr k
theorem dX1_next_48 : decode cX1_next 48 = .ok (.invokevirtual 57, 3) := dk_182 0 57 (dk_at dksX1_next_2 3 rfl rfl)
theorem iX1_next_48 {d : Nat} {L S : List MV} {M : MH} {Q : Out → MH → Prop} {b : Nat} {P : Int → MH → Prop} (hs : (msh M b).1 = 3) (hM : MCi mJ2_size d [vp b] M P) (k : ∀ z M', P z M' → MW mX1_next (d + 1) 51 L (vi z :: S) M' Q) (h8 : Nat.ble (S.map mcat).sum 8 = true := by rfl) : MW mX1_next (d + 1) 48 L (vp b :: S) M Q := mw_calli (as := [vp b]) (site_V (Y' := mJ2_size) (n := 0) ⟨dX1_next_48, rfl⟩ (Or.inl q481) q482 q483 wJ2_size nJ2_size hJ2_size (cls_of (ci := 3) rfl hs) rfl) kJ2_size (Nat.le_of_ble_eq_true h8) hM k
theorem dX1_next_51 : decode cX1_next 51 = .ok (.bipush 8, 2) := dk_16 8 (dk_at dksX1_next_2 6 rfl rfl)
theorem iX1_next_51 {d : Nat} {L S : List MV} {M : MH} {Q : Out → MH → Prop}  (k : MW mX1_next d 53 (L) (vi 8 :: S) M Q) : MW mX1_next d 51 (L) S M Q := mw_bipush ⟨dX1_next_51, rfl⟩ (by decide) k
theorem dX1_next_53 : decode cX1_next 53 = .ok (.if_icmp .ne 8, 3) := dk_160 0 8 (dk_at dksX1_next_2 8 rfl rfl)
theorem iX1_next_53 {d : Nat} {L S : List MV} {M : MH} {Q : Out → MH → Prop} {a b : Int} (ha : inR a) (hb : inR b) (kt : a ≠ b → MW mX1_next d 61 L S M Q) (kf : a = b → MW mX1_next d 56 L S M Q) : MW mX1_next d 53 L (vi b :: vi a :: S) M Q := mw_icmp_ne ⟨dX1_next_53, rfl⟩ rfl ha hb kt kf
theorem dX1_next_56 : decode cX1_next 56 = .ok (.aload_n 0, 1) := dk_42 (dk_at dksX1_next_2 11 rfl rfl)
theorem iX1_next_56 {d : Nat} {r S : List MV} {M : MH} {Q : Out → MH → Prop} {o : Option Nat} (k : MW mX1_next d 57 (vr o :: r) (vr o :: S) M Q) : MW mX1_next d 56 (vr o :: r) S M Q := mw_aload_n ⟨dX1_next_56, rfl⟩ rfl k
theorem dX1_next_57 : decode cX1_next 57 = .ok (.invokevirtual 46, 3) := dk_182 0 46 (dk_at dksX1_next_2 12 rfl rfl)
theorem iX1_next_57_1 {d : Nat} {L S : List MV} {M : MH} {Q : Out → MH → Prop} {b : Nat} {P : Option Nat → MH → Prop} (hs : (msh M b).1 = 1) (hM : MCr mX1_torn d [vp b] M P) (k : ∀ o M', P o M' → MW mX1_next (d + 1) 60 L (vr o :: S) M' Q) (h8 : Nat.ble (S.map mcat).sum 8 = true := by rfl) : MW mX1_next (d + 1) 57 L (vp b :: S) M Q := mw_callr (as := [vp b]) (site_V (Y' := mX1_torn) (n := 0) ⟨dX1_next_57, rfl⟩ (Or.inl q410) q411 q414 wX1_torn nX1_torn hX1_torn (cls_of (ci := 1) rfl hs) rfl) kX1_torn (Nat.le_of_ble_eq_true h8) hM k
theorem iX1_next_57_2 {d : Nat} {L S : List MV} {M : MH} {Q : Out → MH → Prop} {b : Nat} {P : Option Nat → MH → Prop} (hs : (msh M b).1 = 2) (hM : MCr mX1_torn d [vp b] M P) (k : ∀ o M', P o M' → MW mX1_next (d + 1) 60 L (vr o :: S) M' Q) (h8 : Nat.ble (S.map mcat).sum 8 = true := by rfl) : MW mX1_next (d + 1) 57 L (vp b :: S) M Q := mw_callr (as := [vp b]) (site_V (Y' := mX1_torn) (n := 0) ⟨dX1_next_57, rfl⟩ (Or.inl q410) q411 q413 wX1_torn nX1_torn hX1_torn (cls_of (ci := 2) rfl hs) rfl) kX1_torn (Nat.le_of_ble_eq_true h8) hM k
theorem dX1_next_60 : decode cX1_next 60 = .ok (.athrow, 1) := dk_191 (dk_at dksX1_next_2 15 rfl rfl)
theorem dX1_next_61 : decode cX1_next 61 = .ok (.aload_n 0, 1) := dk_42 (dk_at dksX1_next_2 16 rfl rfl)
theorem iX1_next_61 {d : Nat} {r S : List MV} {M : MH} {Q : Out → MH → Prop} {o : Option Nat} (k : MW mX1_next d 62 (vr o :: r) (vr o :: S) M Q) : MW mX1_next d 61 (vr o :: r) S M Q := mw_aload_n ⟨dX1_next_61, rfl⟩ rfl k
theorem dX1_next_62 : decode cX1_next 62 = .ok (.getfield 12, 3) := dk_180 0 12 (dk_at dksX1_next_2 17 rfl rfl)
theorem iX1_next_62_1 {d : Nat} {L S : List MV} {M : MH} {Q : Out → MH → Prop} {a : Nat} {o : Option Nat} (hs : (msh M a).1 = 1) (hr : mrv M a 5 = o) (k : MW mX1_next d 65 L (vr o :: S) M Q) : MW mX1_next d 62 L (vp a :: S) M Q := mw_getR (ci := 1) (k := 5) ⟨dX1_next_62, rfl⟩ ⟨_, rfl, Nat.le_of_ble_eq_true rfl, Or.inl q167⟩ rfl hs hr k
theorem iX1_next_62_2 {d : Nat} {L S : List MV} {M : MH} {Q : Out → MH → Prop} {a : Nat} {o : Option Nat} (hs : (msh M a).1 = 2) (hr : mrv M a 5 = o) (k : MW mX1_next d 65 L (vr o :: S) M Q) : MW mX1_next d 62 L (vp a :: S) M Q := mw_getR (ci := 2) (k := 5) ⟨dX1_next_62, rfl⟩ ⟨_, rfl, Nat.le_of_ble_eq_true rfl, Or.inl q167⟩ rfl hs hr k
theorem dX1_next_65 : decode cX1_next 65 = .ok (.aload_n 0, 1) := dk_42 (dk_at dksX1_next_2 20 rfl rfl)
theorem iX1_next_65 {d : Nat} {r S : List MV} {M : MH} {Q : Out → MH → Prop} {o : Option Nat} (k : MW mX1_next d 66 (vr o :: r) (vr o :: S) M Q) : MW mX1_next d 65 (vr o :: r) S M Q := mw_aload_n ⟨dX1_next_65, rfl⟩ rfl k
theorem dX1_next_66 : decode cX1_next 66 = .ok (.invokevirtual 60, 3) := dk_182 0 60 (dk_at dksX1_next_2 21 rfl rfl)
theorem iX1_next_66_1 {d : Nat} {L S : List MV} {M : MH} {Q : Out → MH → Prop} {b : Nat} {P : Option Nat → MH → Prop} (hs : (msh M b).1 = 1) (hM : MCr mX2_reads d [vp b] M P) (k : ∀ o M', P o M' → MW mX1_next (d + 1) 69 L (vr o :: S) M' Q) (h8 : Nat.ble (S.map mcat).sum 8 = true := by rfl) : MW mX1_next (d + 1) 66 L (vp b :: S) M Q := mw_callr (as := [vp b]) (site_U (Y' := mX2_reads) (n := 0) (x := ⟨"SoldWithIt$Text", "reads", "()Ljava/lang/Object;"⟩) ⟨dX1_next_66, rfl⟩ q485 q487 (Or.inl (lw_b q486 rfl)) ⟨by decide +kernel, by decide +kernel⟩ q532 q531 wX2_reads rfl nX2_reads (cls_of (ci := 1) rfl hs) rfl) kX2_reads (Nat.le_of_ble_eq_true h8) hM k
theorem iX1_next_66_1T {d : Nat} {L S : List MV} {M : MH} {Q : Out → MH → Prop} {b : Nat} {Qs : Out → MH → Prop} (hs : (msh M b).1 = 1) (hM : MC mX2_reads d [vp b] M Qs) (kr : ∀ v M', Qs (.inl v) M' → MW mX1_next (d + 1) 69 L (v.toList ++ S) M' Q) (kt : ∀ a M', Qs (.inr a) M' → MX mX1_next (d + 1) 66 L M' a Q) (h8 : Nat.ble (S.map mcat).sum 8 = true := by rfl) : MW mX1_next (d + 1) 66 L (vp b :: S) M Q := mw_call (as := [vp b]) (site_U (Y' := mX2_reads) (n := 0) (x := ⟨"SoldWithIt$Text", "reads", "()Ljava/lang/Object;"⟩) ⟨dX1_next_66, rfl⟩ q485 q487 (Or.inl (lw_b q486 rfl)) ⟨by decide +kernel, by decide +kernel⟩ q532 q531 wX2_reads rfl nX2_reads (cls_of (ci := 1) rfl hs) rfl) kX2_reads.1 kX2_reads.2.1 kX2_reads.2.2.1 (Nat.le_of_ble_eq_true h8) hM kX2_reads.2.2.2 kr kt
theorem iX1_next_66_2 {d : Nat} {L S : List MV} {M : MH} {Q : Out → MH → Prop} {b : Nat} {P : Option Nat → MH → Prop} (hs : (msh M b).1 = 2) (hM : MCr mX3_reads d [vp b] M P) (k : ∀ o M', P o M' → MW mX1_next (d + 1) 69 L (vr o :: S) M' Q) (h8 : Nat.ble (S.map mcat).sum 8 = true := by rfl) : MW mX1_next (d + 1) 66 L (vp b :: S) M Q := mw_callr (as := [vp b]) (site_U (Y' := mX3_reads) (n := 0) (x := ⟨"SoldWithIt$Text", "reads", "()Ljava/lang/Object;"⟩) ⟨dX1_next_66, rfl⟩ q485 q487 (Or.inl (lw_b q486 rfl)) ⟨by decide +kernel, by decide +kernel⟩ q489 q488 wX3_reads rfl nX3_reads (cls_of (ci := 2) rfl hs) rfl) kX3_reads (Nat.le_of_ble_eq_true h8) hM k
theorem iX1_next_66_2T {d : Nat} {L S : List MV} {M : MH} {Q : Out → MH → Prop} {b : Nat} {Qs : Out → MH → Prop} (hs : (msh M b).1 = 2) (hM : MC mX3_reads d [vp b] M Qs) (kr : ∀ v M', Qs (.inl v) M' → MW mX1_next (d + 1) 69 L (v.toList ++ S) M' Q) (kt : ∀ a M', Qs (.inr a) M' → MX mX1_next (d + 1) 66 L M' a Q) (h8 : Nat.ble (S.map mcat).sum 8 = true := by rfl) : MW mX1_next (d + 1) 66 L (vp b :: S) M Q := mw_call (as := [vp b]) (site_U (Y' := mX3_reads) (n := 0) (x := ⟨"SoldWithIt$Text", "reads", "()Ljava/lang/Object;"⟩) ⟨dX1_next_66, rfl⟩ q485 q487 (Or.inl (lw_b q486 rfl)) ⟨by decide +kernel, by decide +kernel⟩ q489 q488 wX3_reads rfl nX3_reads (cls_of (ci := 2) rfl hs) rfl) kX3_reads.1 kX3_reads.2.1 kX3_reads.2.2.1 (Nat.le_of_ble_eq_true h8) hM kX3_reads.2.2.2 kr kt
theorem dX1_next_69 : decode cX1_next 69 = .ok (.invokevirtual 64, 3) := dk_182 0 64 (dk_at dksX1_next_3 0 rfl rfl)
theorem iX1_next_69 {d : Nat} {L S : List MV} {M : MH} {Q : Out → MH → Prop} {v1 : MV} {b : Nat} {P : Int → MH → Prop} (hs : (msh M b).1 = 3) (hM : MCi mJ2_add d [vp b, v1] M P) (k : ∀ z M', P z M' → MW mX1_next (d + 1) 72 L (vi z :: S) M' Q) (h8 : Nat.ble (S.map mcat).sum 8 = true := by rfl) : MW mX1_next (d + 1) 69 L (v1 :: vp b :: S) M Q := mw_calli (as := [vp b, v1]) (site_V (Y' := mJ2_add) (n := 1) ⟨dX1_next_69, rfl⟩ (Or.inl q559) q560 q561 wJ2_add nJ2_add hJ2_add (cls_of (ci := 3) rfl hs) rfl) kJ2_add (Nat.le_of_ble_eq_true h8) hM k
theorem dX1_next_72 : decode cX1_next 72 = .ok (.pop, 1) := dk_87 (dk_at dksX1_next_3 3 rfl rfl)
theorem iX1_next_72 {d : Nat} {L S : List MV} {M : MH} {Q : Out → MH → Prop} {v : MV} (k : MW mX1_next d 73 L S M Q) (hv : mcat v = 1 := by rfl) : MW mX1_next d 72 L (v :: S) M Q := mw_pop ⟨dX1_next_72, rfl⟩ hv k
theorem dX1_next_73 : decode cX1_next 73 = .ok (.return_, 1) := dk_177 (dk_at dksX1_next_3 4 rfl rfl)
theorem iX1_next_73 {d : Nat} {L : List MV} {M : MH} {P : MH → Prop} (hq : P M) : MW mX1_next d 73 L [] M (Rv P) := mw_retv ⟨dX1_next_73, rfl⟩ rfl hq
/-! X1_here -/
def dkwX1_here_1 : List UInt8 := [172]
abbrev dktX1_here_1 : List UInt8 := dkwX1_here_1 ++ []
def dkwX1_here_0 : List UInt8 := [42, 180, 0, 30, 42, 180, 0, 22, 162, 0, 15, 42, 180, 0, 18, 42, 180, 0, 30, 46, 167, 0, 4, 2]
abbrev dktX1_here_0 : List UInt8 := dkwX1_here_0 ++ dktX1_here_1
theorem dksX1_here_0 : cX1_here.data.toList.drop 0 = dktX1_here_0 := by decide +kernel
theorem dksX1_here_1 : cX1_here.data.toList.drop 24 = dktX1_here_1 := dk_seg dksX1_here_0 24 rfl rfl
theorem dX1_here_0 : decode cX1_here 0 = .ok (.aload_n 0, 1) := dk_42 (dk_at dksX1_here_0 0 rfl rfl)
theorem iX1_here_0 {d : Nat} {r S : List MV} {M : MH} {Q : Out → MH → Prop} {o : Option Nat} (k : MW mX1_here d 1 (vr o :: r) (vr o :: S) M Q) : MW mX1_here d 0 (vr o :: r) S M Q := mw_aload_n ⟨dX1_here_0, rfl⟩ rfl k
theorem dX1_here_1 : decode cX1_here 1 = .ok (.getfield 30, 3) := dk_180 0 30 (dk_at dksX1_here_0 1 rfl rfl)
theorem iX1_here_1_1 {d : Nat} {L S : List MV} {M : MH} {Q : Out → MH → Prop} {a : Nat} (hs : (msh M a).1 = 1) (k : MW mX1_here d 4 L (vi (miv M a 2) :: S) M Q) : MW mX1_here d 1 L (vp a :: S) M Q := mw_getI (ci := 1) (k := 2) ⟨dX1_here_1, rfl⟩ ⟨_, rfl, Nat.le_of_ble_eq_true rfl, Or.inl q164⟩ rfl hs k
theorem iX1_here_1_2 {d : Nat} {L S : List MV} {M : MH} {Q : Out → MH → Prop} {a : Nat} (hs : (msh M a).1 = 2) (k : MW mX1_here d 4 L (vi (miv M a 2) :: S) M Q) : MW mX1_here d 1 L (vp a :: S) M Q := mw_getI (ci := 2) (k := 2) ⟨dX1_here_1, rfl⟩ ⟨_, rfl, Nat.le_of_ble_eq_true rfl, Or.inl q164⟩ rfl hs k
theorem dX1_here_4 : decode cX1_here 4 = .ok (.aload_n 0, 1) := dk_42 (dk_at dksX1_here_0 4 rfl rfl)
theorem iX1_here_4 {d : Nat} {r S : List MV} {M : MH} {Q : Out → MH → Prop} {o : Option Nat} (k : MW mX1_here d 5 (vr o :: r) (vr o :: S) M Q) : MW mX1_here d 4 (vr o :: r) S M Q := mw_aload_n ⟨dX1_here_4, rfl⟩ rfl k
theorem dX1_here_5 : decode cX1_here 5 = .ok (.getfield 22, 3) := dk_180 0 22 (dk_at dksX1_here_0 5 rfl rfl)
theorem iX1_here_5_1 {d : Nat} {L S : List MV} {M : MH} {Q : Out → MH → Prop} {a : Nat} (hs : (msh M a).1 = 1) (k : MW mX1_here d 8 L (vi (miv M a 1) :: S) M Q) : MW mX1_here d 5 L (vp a :: S) M Q := mw_getI (ci := 1) (k := 1) ⟨dX1_here_5, rfl⟩ ⟨_, rfl, Nat.le_of_ble_eq_true rfl, Or.inl q163⟩ rfl hs k
theorem iX1_here_5_2 {d : Nat} {L S : List MV} {M : MH} {Q : Out → MH → Prop} {a : Nat} (hs : (msh M a).1 = 2) (k : MW mX1_here d 8 L (vi (miv M a 1) :: S) M Q) : MW mX1_here d 5 L (vp a :: S) M Q := mw_getI (ci := 2) (k := 1) ⟨dX1_here_5, rfl⟩ ⟨_, rfl, Nat.le_of_ble_eq_true rfl, Or.inl q163⟩ rfl hs k
theorem dX1_here_8 : decode cX1_here 8 = .ok (.if_icmp .ge 15, 3) := dk_162 0 15 (dk_at dksX1_here_0 8 rfl rfl)
theorem iX1_here_8 {d : Nat} {L S : List MV} {M : MH} {Q : Out → MH → Prop} {a b : Int} (ha : inR a) (hb : inR b) (kt : b ≤ a → MW mX1_here d 23 L S M Q) (kf : ¬ b ≤ a → MW mX1_here d 11 L S M Q) : MW mX1_here d 8 L (vi b :: vi a :: S) M Q := mw_icmp_ge ⟨dX1_here_8, rfl⟩ rfl ha hb kt kf
theorem dX1_here_11 : decode cX1_here 11 = .ok (.aload_n 0, 1) := dk_42 (dk_at dksX1_here_0 11 rfl rfl)
theorem iX1_here_11 {d : Nat} {r S : List MV} {M : MH} {Q : Out → MH → Prop} {o : Option Nat} (k : MW mX1_here d 12 (vr o :: r) (vr o :: S) M Q) : MW mX1_here d 11 (vr o :: r) S M Q := mw_aload_n ⟨dX1_here_11, rfl⟩ rfl k
theorem dX1_here_12 : decode cX1_here 12 = .ok (.getfield 18, 3) := dk_180 0 18 (dk_at dksX1_here_0 12 rfl rfl)
theorem iX1_here_12_1 {d : Nat} {L S : List MV} {M : MH} {Q : Out → MH → Prop} {a : Nat} {o : Option Nat} (hs : (msh M a).1 = 1) (hr : mrv M a 0 = o) (k : MW mX1_here d 15 L (vr o :: S) M Q) : MW mX1_here d 12 L (vp a :: S) M Q := mw_getR (ci := 1) (k := 0) ⟨dX1_here_12, rfl⟩ ⟨_, rfl, Nat.le_of_ble_eq_true rfl, Or.inl q162⟩ rfl hs hr k
theorem iX1_here_12_2 {d : Nat} {L S : List MV} {M : MH} {Q : Out → MH → Prop} {a : Nat} {o : Option Nat} (hs : (msh M a).1 = 2) (hr : mrv M a 0 = o) (k : MW mX1_here d 15 L (vr o :: S) M Q) : MW mX1_here d 12 L (vp a :: S) M Q := mw_getR (ci := 2) (k := 0) ⟨dX1_here_12, rfl⟩ ⟨_, rfl, Nat.le_of_ble_eq_true rfl, Or.inl q162⟩ rfl hs hr k
theorem dX1_here_15 : decode cX1_here 15 = .ok (.aload_n 0, 1) := dk_42 (dk_at dksX1_here_0 15 rfl rfl)
theorem iX1_here_15 {d : Nat} {r S : List MV} {M : MH} {Q : Out → MH → Prop} {o : Option Nat} (k : MW mX1_here d 16 (vr o :: r) (vr o :: S) M Q) : MW mX1_here d 15 (vr o :: r) S M Q := mw_aload_n ⟨dX1_here_15, rfl⟩ rfl k
theorem dX1_here_16 : decode cX1_here 16 = .ok (.getfield 30, 3) := dk_180 0 30 (dk_at dksX1_here_0 16 rfl rfl)
theorem iX1_here_16_1 {d : Nat} {L S : List MV} {M : MH} {Q : Out → MH → Prop} {a : Nat} (hs : (msh M a).1 = 1) (k : MW mX1_here d 19 L (vi (miv M a 2) :: S) M Q) : MW mX1_here d 16 L (vp a :: S) M Q := mw_getI (ci := 1) (k := 2) ⟨dX1_here_16, rfl⟩ ⟨_, rfl, Nat.le_of_ble_eq_true rfl, Or.inl q164⟩ rfl hs k
theorem iX1_here_16_2 {d : Nat} {L S : List MV} {M : MH} {Q : Out → MH → Prop} {a : Nat} (hs : (msh M a).1 = 2) (k : MW mX1_here d 19 L (vi (miv M a 2) :: S) M Q) : MW mX1_here d 16 L (vp a :: S) M Q := mw_getI (ci := 2) (k := 2) ⟨dX1_here_16, rfl⟩ ⟨_, rfl, Nat.le_of_ble_eq_true rfl, Or.inl q164⟩ rfl hs k
theorem dX1_here_19 : decode cX1_here 19 = .ok (.iaload, 1) := dk_46 (dk_at dksX1_here_0 19 rfl rfl)
theorem iX1_here_19 {d : Nat} {L S : List MV} {M : MH} {Q : Out → MH → Prop} {a n : Nat} {z : Int} (hs : msh M a = (100, n)) (hi : 0 ≤ z ∧ z < n) (k : MW mX1_here d 20 L (vi (miv M a z.toNat) :: S) M Q) (hn : Nat.ble n 2147483647 = true := by rfl) : MW mX1_here d 19 L (vi z :: vp a :: S) M Q := mw_iaload ⟨dX1_here_19, rfl⟩ hs (Nat.le_of_ble_eq_true hn) hi k
theorem dX1_here_20 : decode cX1_here 20 = .ok (.goto 4, 3) := dk_167 0 4 (dk_at dksX1_here_0 20 rfl rfl)
theorem iX1_here_20 {d : Nat} {L S : List MV} {M : MH} {Q : Out → MH → Prop}  (k : MW mX1_here d 24 (L) S M Q) : MW mX1_here d 20 (L) S M Q := mw_goto ⟨dX1_here_20, rfl⟩ rfl k
theorem dX1_here_23 : decode cX1_here 23 = .ok (.iconst (-1), 1) := dk_2 (dk_at dksX1_here_0 23 rfl rfl)
theorem iX1_here_23 {d : Nat} {L S : List MV} {M : MH} {Q : Out → MH → Prop}  (k : MW mX1_here d 24 (L) (vi (-1) :: S) M Q) : MW mX1_here d 23 (L) S M Q := mw_iconst ⟨dX1_here_23, rfl⟩ k
theorem dX1_here_24 : decode cX1_here 24 = .ok (.ireturn, 1) := dk_172 (dk_at dksX1_here_1 0 rfl rfl)
theorem iX1_here_24 {d : Nat} {L : List MV} {M : MH} {P : Int → MH → Prop} {z : Int} (hq : P z M) : MW mX1_here d 24 L [vi z] M (Ri P) := mw_reti ⟨dX1_here_24, rfl⟩ rfl hq
/-! X1_torn -/
def dkwX1_torn_0 : List UInt8 := [187, 0, 33, 89, 42, 180, 0, 30, 183, 0, 35, 176]
abbrev dktX1_torn_0 : List UInt8 := dkwX1_torn_0 ++ []
theorem dksX1_torn_0 : cX1_torn.data.toList.drop 0 = dktX1_torn_0 := by decide +kernel
theorem dX1_torn_0 : decode cX1_torn 0 = .ok (.new 33, 3) := dk_187 0 33 (dk_at dksX1_torn_0 0 rfl rfl)
theorem iX1_torn_0 {d : Nat} {L S : List MV} {M : MH} {Q : Out → MH → Prop} (hcap : mhn M + 1 ≤ mNC) (hcas : mhs M + 7 ≤ mNS) (k : MW mX1_torn d 3 L (vp (mhn M) :: S) (wN M 9 7) Q) : MW mX1_torn d 0 L S M Q := mw_new (ci := 9) ⟨dX1_torn_0, rfl⟩ rfl q382 q416 q103 hcap hcas k
theorem dX1_torn_3 : decode cX1_torn 3 = .ok (.dup, 1) := dk_89 (dk_at dksX1_torn_0 3 rfl rfl)
theorem iX1_torn_3 {d : Nat} {L S : List MV} {M : MH} {Q : Out → MH → Prop} {v : MV} (k : MW mX1_torn d 4 L (v :: v :: S) M Q) (hv : mcat v = 1 := by rfl) : MW mX1_torn d 3 L (v :: S) M Q := mw_dup ⟨dX1_torn_3, rfl⟩ hv k
theorem dX1_torn_4 : decode cX1_torn 4 = .ok (.aload_n 0, 1) := dk_42 (dk_at dksX1_torn_0 4 rfl rfl)
theorem iX1_torn_4 {d : Nat} {r S : List MV} {M : MH} {Q : Out → MH → Prop} {o : Option Nat} (k : MW mX1_torn d 5 (vr o :: r) (vr o :: S) M Q) : MW mX1_torn d 4 (vr o :: r) S M Q := mw_aload_n ⟨dX1_torn_4, rfl⟩ rfl k
theorem dX1_torn_5 : decode cX1_torn 5 = .ok (.getfield 30, 3) := dk_180 0 30 (dk_at dksX1_torn_0 5 rfl rfl)
theorem iX1_torn_5_1 {d : Nat} {L S : List MV} {M : MH} {Q : Out → MH → Prop} {a : Nat} (hs : (msh M a).1 = 1) (k : MW mX1_torn d 8 L (vi (miv M a 2) :: S) M Q) : MW mX1_torn d 5 L (vp a :: S) M Q := mw_getI (ci := 1) (k := 2) ⟨dX1_torn_5, rfl⟩ ⟨_, rfl, Nat.le_of_ble_eq_true rfl, Or.inl q164⟩ rfl hs k
theorem iX1_torn_5_2 {d : Nat} {L S : List MV} {M : MH} {Q : Out → MH → Prop} {a : Nat} (hs : (msh M a).1 = 2) (k : MW mX1_torn d 8 L (vi (miv M a 2) :: S) M Q) : MW mX1_torn d 5 L (vp a :: S) M Q := mw_getI (ci := 2) (k := 2) ⟨dX1_torn_5, rfl⟩ ⟨_, rfl, Nat.le_of_ble_eq_true rfl, Or.inl q164⟩ rfl hs k
theorem dX1_torn_8 : decode cX1_torn 8 = .ok (.invokespecial 35, 3) := dk_183 0 35 (dk_at dksX1_torn_0 8 rfl rfl)
theorem iX1_torn_8 {d : Nat} {L S : List MV} {M : MH} {Q : Out → MH → Prop} {v1 : MV} {b : Nat} {P : MH → Prop} (hM : MCv mX8_init d [vp b, v1] M P) (k : ∀ M', P M' → MW mX1_torn (d + 1) 11 L S M' Q) (h8 : Nat.ble (S.map mcat).sum 8 = true := by rfl) : MW mX1_torn (d + 1) 8 L (v1 :: vp b :: S) M Q := mw_callv (as := [vp b, v1]) (site_I (Y' := mX8_init) (n := 1) ⟨dX1_torn_8, rfl⟩ (Or.inl q455) q456 q457 rfl nX8_init hX8_init rfl) kX8_init (Nat.le_of_ble_eq_true h8) hM k
theorem dX1_torn_11 : decode cX1_torn 11 = .ok (.areturn, 1) := dk_176 (dk_at dksX1_torn_0 11 rfl rfl)
theorem iX1_torn_11 {d : Nat} {L : List MV} {M : MH} {P : Option Nat → MH → Prop} {o : Option Nat} (hq : P o M) : MW mX1_torn d 11 L [vr o] M (Rr P) := mw_retr ⟨dX1_torn_11, rfl⟩ rfl (Or.inl ⟨_, rfl⟩) hq
/-! X1_goesOn -/
def dkwX1_goesOn_0 : List UInt8 := [42, 89, 180, 0, 30, 4, 96, 181, 0, 30, 177]
abbrev dktX1_goesOn_0 : List UInt8 := dkwX1_goesOn_0 ++ []
theorem dksX1_goesOn_0 : cX1_goesOn.data.toList.drop 0 = dktX1_goesOn_0 := by decide +kernel
theorem dX1_goesOn_0 : decode cX1_goesOn 0 = .ok (.aload_n 0, 1) := dk_42 (dk_at dksX1_goesOn_0 0 rfl rfl)
theorem iX1_goesOn_0 {d : Nat} {r S : List MV} {M : MH} {Q : Out → MH → Prop} {o : Option Nat} (k : MW mX1_goesOn d 1 (vr o :: r) (vr o :: S) M Q) : MW mX1_goesOn d 0 (vr o :: r) S M Q := mw_aload_n ⟨dX1_goesOn_0, rfl⟩ rfl k
theorem dX1_goesOn_1 : decode cX1_goesOn 1 = .ok (.dup, 1) := dk_89 (dk_at dksX1_goesOn_0 1 rfl rfl)
theorem iX1_goesOn_1 {d : Nat} {L S : List MV} {M : MH} {Q : Out → MH → Prop} {v : MV} (k : MW mX1_goesOn d 2 L (v :: v :: S) M Q) (hv : mcat v = 1 := by rfl) : MW mX1_goesOn d 1 L (v :: S) M Q := mw_dup ⟨dX1_goesOn_1, rfl⟩ hv k
theorem dX1_goesOn_2 : decode cX1_goesOn 2 = .ok (.getfield 30, 3) := dk_180 0 30 (dk_at dksX1_goesOn_0 2 rfl rfl)
theorem iX1_goesOn_2_1 {d : Nat} {L S : List MV} {M : MH} {Q : Out → MH → Prop} {a : Nat} (hs : (msh M a).1 = 1) (k : MW mX1_goesOn d 5 L (vi (miv M a 2) :: S) M Q) : MW mX1_goesOn d 2 L (vp a :: S) M Q := mw_getI (ci := 1) (k := 2) ⟨dX1_goesOn_2, rfl⟩ ⟨_, rfl, Nat.le_of_ble_eq_true rfl, Or.inl q164⟩ rfl hs k
theorem iX1_goesOn_2_2 {d : Nat} {L S : List MV} {M : MH} {Q : Out → MH → Prop} {a : Nat} (hs : (msh M a).1 = 2) (k : MW mX1_goesOn d 5 L (vi (miv M a 2) :: S) M Q) : MW mX1_goesOn d 2 L (vp a :: S) M Q := mw_getI (ci := 2) (k := 2) ⟨dX1_goesOn_2, rfl⟩ ⟨_, rfl, Nat.le_of_ble_eq_true rfl, Or.inl q164⟩ rfl hs k
theorem dX1_goesOn_5 : decode cX1_goesOn 5 = .ok (.iconst 1, 1) := dk_4 (dk_at dksX1_goesOn_0 5 rfl rfl)
theorem iX1_goesOn_5 {d : Nat} {L S : List MV} {M : MH} {Q : Out → MH → Prop}  (k : MW mX1_goesOn d 6 (L) (vi 1 :: S) M Q) : MW mX1_goesOn d 5 (L) S M Q := mw_iconst ⟨dX1_goesOn_5, rfl⟩ k
theorem dX1_goesOn_6 : decode cX1_goesOn 6 = .ok (.iadd, 1) := dk_96 (dk_at dksX1_goesOn_0 6 rfl rfl)
theorem iX1_goesOn_6 {d : Nat} {L S : List MV} {M : MH} {Q : Out → MH → Prop} {a b : Int} (k : MW mX1_goesOn d 7 (L) (vi (a + b) :: S) M Q) : MW mX1_goesOn d 6 (L) (vi b :: vi a :: S) M Q := mw_iadd ⟨dX1_goesOn_6, rfl⟩ k
theorem dX1_goesOn_7 : decode cX1_goesOn 7 = .ok (.putfield 30, 3) := dk_181 0 30 (dk_at dksX1_goesOn_0 7 rfl rfl)
theorem iX1_goesOn_7_1 {d : Nat} {L S : List MV} {M : MH} {Q : Out → MH → Prop} {a : Nat} {z : Int} (hs : (msh M a).1 = 1) (k : MW mX1_goesOn d 10 L S (wI M a 2 z) Q) : MW mX1_goesOn d 7 L (vi z :: vp a :: S) M Q := mw_putI (ci := 1) (k := 2) ⟨dX1_goesOn_7, rfl⟩ ⟨_, rfl, Nat.le_of_ble_eq_true rfl, Or.inl ⟨rfl, Or.inl q164⟩⟩ rfl hs k
theorem iX1_goesOn_7_2 {d : Nat} {L S : List MV} {M : MH} {Q : Out → MH → Prop} {a : Nat} {z : Int} (hs : (msh M a).1 = 2) (k : MW mX1_goesOn d 10 L S (wI M a 2 z) Q) : MW mX1_goesOn d 7 L (vi z :: vp a :: S) M Q := mw_putI (ci := 2) (k := 2) ⟨dX1_goesOn_7, rfl⟩ ⟨_, rfl, Nat.le_of_ble_eq_true rfl, Or.inl ⟨rfl, Or.inl q164⟩⟩ rfl hs k
theorem dX1_goesOn_10 : decode cX1_goesOn 10 = .ok (.return_, 1) := dk_177 (dk_at dksX1_goesOn_0 10 rfl rfl)
theorem iX1_goesOn_10 {d : Nat} {L : List MV} {M : MH} {P : MH → Prop} (hq : P M) : MW mX1_goesOn d 10 L [] M (Rv P) := mw_retv ⟨dX1_goesOn_10, rfl⟩ rfl hq
/-! X1_figure -/
def dkwX1_figure_1 : List UInt8 := [42, 89, 180, 0, 30, 4, 96, 181, 0, 30, 28, 172]
abbrev dktX1_figure_1 : List UInt8 := dkwX1_figure_1 ++ []
def dkwX1_figure_0 : List UInt8 := [42, 182, 0, 38, 16, 48, 100, 61, 28, 133, 9, 27, 133, 184, 0, 42, 154, 0, 8, 42, 182, 0, 46, 191]
abbrev dktX1_figure_0 : List UInt8 := dkwX1_figure_0 ++ dktX1_figure_1
theorem dksX1_figure_0 : cX1_figure.data.toList.drop 0 = dktX1_figure_0 := by decide +kernel
theorem dksX1_figure_1 : cX1_figure.data.toList.drop 24 = dktX1_figure_1 := dk_seg dksX1_figure_0 24 rfl rfl
theorem dX1_figure_0 : decode cX1_figure 0 = .ok (.aload_n 0, 1) := dk_42 (dk_at dksX1_figure_0 0 rfl rfl)
theorem iX1_figure_0 {d : Nat} {r S : List MV} {M : MH} {Q : Out → MH → Prop} {o : Option Nat} (k : MW mX1_figure d 1 (vr o :: r) (vr o :: S) M Q) : MW mX1_figure d 0 (vr o :: r) S M Q := mw_aload_n ⟨dX1_figure_0, rfl⟩ rfl k
theorem dX1_figure_1 : decode cX1_figure 1 = .ok (.invokevirtual 38, 3) := dk_182 0 38 (dk_at dksX1_figure_0 1 rfl rfl)
theorem iX1_figure_1_1 {d : Nat} {L S : List MV} {M : MH} {Q : Out → MH → Prop} {b : Nat} {P : Int → MH → Prop} (hs : (msh M b).1 = 1) (hM : MCi mX1_here d [vp b] M P) (k : ∀ z M', P z M' → MW mX1_figure (d + 1) 4 L (vi z :: S) M' Q) (h8 : Nat.ble (S.map mcat).sum 8 = true := by rfl) : MW mX1_figure (d + 1) 1 L (vp b :: S) M Q := mw_calli (as := [vp b]) (site_V (Y' := mX1_here) (n := 0) ⟨dX1_figure_1, rfl⟩ (Or.inl q404) q405 q408 wX1_here nX1_here hX1_here (cls_of (ci := 1) rfl hs) rfl) kX1_here (Nat.le_of_ble_eq_true h8) hM k
theorem iX1_figure_1_2 {d : Nat} {L S : List MV} {M : MH} {Q : Out → MH → Prop} {b : Nat} {P : Int → MH → Prop} (hs : (msh M b).1 = 2) (hM : MCi mX1_here d [vp b] M P) (k : ∀ z M', P z M' → MW mX1_figure (d + 1) 4 L (vi z :: S) M' Q) (h8 : Nat.ble (S.map mcat).sum 8 = true := by rfl) : MW mX1_figure (d + 1) 1 L (vp b :: S) M Q := mw_calli (as := [vp b]) (site_V (Y' := mX1_here) (n := 0) ⟨dX1_figure_1, rfl⟩ (Or.inl q404) q405 q407 wX1_here nX1_here hX1_here (cls_of (ci := 2) rfl hs) rfl) kX1_here (Nat.le_of_ble_eq_true h8) hM k
theorem dX1_figure_4 : decode cX1_figure 4 = .ok (.bipush 48, 2) := dk_16 48 (dk_at dksX1_figure_0 4 rfl rfl)
theorem iX1_figure_4 {d : Nat} {L S : List MV} {M : MH} {Q : Out → MH → Prop}  (k : MW mX1_figure d 6 (L) (vi 48 :: S) M Q) : MW mX1_figure d 4 (L) S M Q := mw_bipush ⟨dX1_figure_4, rfl⟩ (by decide) k
theorem dX1_figure_6 : decode cX1_figure 6 = .ok (.isub, 1) := dk_100 (dk_at dksX1_figure_0 6 rfl rfl)
theorem iX1_figure_6 {d : Nat} {L S : List MV} {M : MH} {Q : Out → MH → Prop} {a b : Int} (k : MW mX1_figure d 7 (L) (vi (a - b) :: S) M Q) : MW mX1_figure d 6 (L) (vi b :: vi a :: S) M Q := mw_isub ⟨dX1_figure_6, rfl⟩ k
theorem dX1_figure_7 : decode cX1_figure 7 = .ok (.istore_n 2, 1) := dk_61 (dk_at dksX1_figure_0 7 rfl rfl)
theorem iX1_figure_7 {d : Nat} {r S : List MV} {M : MH} {Q : Out → MH → Prop} {w0 w1 : MV} {z : Int} {v : MV} (k : MW mX1_figure d 8 (w0 :: w1 :: vi z :: r) S M Q) (hok : okSt (w0 :: w1 :: v :: r) 2 = true := by rfl) : MW mX1_figure d 7 (w0 :: w1 :: v :: r) (vi z :: S) M Q := mw_istore_n (i := 2) ⟨dX1_figure_7, rfl⟩ rfl (Nat.le_of_ble_eq_true rfl) hok k
theorem dX1_figure_8 : decode cX1_figure 8 = .ok (.iload_n 2, 1) := dk_28 (dk_at dksX1_figure_0 8 rfl rfl)
theorem iX1_figure_8 {d : Nat} {r S : List MV} {M : MH} {Q : Out → MH → Prop} {w0 w1 : MV} {z : Int} (k : MW mX1_figure d 9 (w0 :: w1 :: vi z :: r) (vi z :: S) M Q) : MW mX1_figure d 8 (w0 :: w1 :: vi z :: r) S M Q := mw_iload_n ⟨dX1_figure_8, rfl⟩ rfl k
theorem dX1_figure_9 : decode cX1_figure 9 = .ok (.i2l, 1) := dk_133 (dk_at dksX1_figure_0 9 rfl rfl)
theorem iX1_figure_9 {d : Nat} {L S : List MV} {M : MH} {Q : Out → MH → Prop} {a : Int} (ha : inR a) (k : MW mX1_figure d 10 (L) (vl a :: S) M Q) : MW mX1_figure d 9 (L) (vi a :: S) M Q := mw_i2l ⟨dX1_figure_9, rfl⟩ ha k
theorem dX1_figure_10 : decode cX1_figure 10 = .ok (.lconst 0, 1) := dk_9 (dk_at dksX1_figure_0 10 rfl rfl)
theorem iX1_figure_10 {d : Nat} {L S : List MV} {M : MH} {Q : Out → MH → Prop}  (k : MW mX1_figure d 11 (L) (vl 0 :: S) M Q) : MW mX1_figure d 10 (L) S M Q := mw_lconst ⟨dX1_figure_10, rfl⟩ (by decide) k
theorem dX1_figure_11 : decode cX1_figure 11 = .ok (.iload_n 1, 1) := dk_27 (dk_at dksX1_figure_0 11 rfl rfl)
theorem iX1_figure_11 {d : Nat} {r S : List MV} {M : MH} {Q : Out → MH → Prop} {w0 : MV} {z : Int} (k : MW mX1_figure d 12 (w0 :: vi z :: r) (vi z :: S) M Q) : MW mX1_figure d 11 (w0 :: vi z :: r) S M Q := mw_iload_n ⟨dX1_figure_11, rfl⟩ rfl k
theorem dX1_figure_12 : decode cX1_figure 12 = .ok (.i2l, 1) := dk_133 (dk_at dksX1_figure_0 12 rfl rfl)
theorem iX1_figure_12 {d : Nat} {L S : List MV} {M : MH} {Q : Out → MH → Prop} {a : Int} (ha : inR a) (k : MW mX1_figure d 13 (L) (vl a :: S) M Q) : MW mX1_figure d 12 (L) (vi a :: S) M Q := mw_i2l ⟨dX1_figure_12, rfl⟩ ha k
theorem dX1_figure_13 : decode cX1_figure 13 = .ok (.invokestatic 42, 3) := dk_184 0 42 (dk_at dksX1_figure_0 13 rfl rfl)
theorem iX1_figure_13 {d : Nat} {L S : List MV} {M : MH} {Q : Out → MH → Prop} {v1 v2 v3 : MV} {P : Int → MH → Prop} (hM : MCi mX0_in d [v1, v2, v3] M P) (k : ∀ z M', P z M' → MW mX1_figure (d + 1) 16 L (vi z :: S) M' Q) (h8 : Nat.ble (S.map mcat).sum 8 = true := by rfl) : MW mX1_figure (d + 1) 13 L (v3 :: v2 :: v1 :: S) M Q := mw_calli (as := [v1, v2, v3]) (site_S (Y' := mX0_in) (n := 3) ⟨dX1_figure_13, rfl⟩ (Or.inr ⟨_, lw_b q517 rfl⟩) q339 q90 wX0_in nX0_in hX0_in rfl) kX0_in (Nat.le_of_ble_eq_true h8) hM k
theorem dX1_figure_16 : decode cX1_figure 16 = .ok (.ifCond .ne 8, 3) := dk_154 0 8 (dk_at dksX1_figure_0 16 rfl rfl)
theorem iX1_figure_16 {d : Nat} {L S : List MV} {M : MH} {Q : Out → MH → Prop} {a : Int} (ha : inR a) (kt : a ≠ 0 → MW mX1_figure d 24 L S M Q) (kf : a = 0 → MW mX1_figure d 19 L S M Q) : MW mX1_figure d 16 L (vi a :: S) M Q := mw_if_ne ⟨dX1_figure_16, rfl⟩ rfl ha kt kf
theorem dX1_figure_19 : decode cX1_figure 19 = .ok (.aload_n 0, 1) := dk_42 (dk_at dksX1_figure_0 19 rfl rfl)
theorem iX1_figure_19 {d : Nat} {r S : List MV} {M : MH} {Q : Out → MH → Prop} {o : Option Nat} (k : MW mX1_figure d 20 (vr o :: r) (vr o :: S) M Q) : MW mX1_figure d 19 (vr o :: r) S M Q := mw_aload_n ⟨dX1_figure_19, rfl⟩ rfl k
theorem dX1_figure_20 : decode cX1_figure 20 = .ok (.invokevirtual 46, 3) := dk_182 0 46 (dk_at dksX1_figure_0 20 rfl rfl)
theorem iX1_figure_20_1 {d : Nat} {L S : List MV} {M : MH} {Q : Out → MH → Prop} {b : Nat} {P : Option Nat → MH → Prop} (hs : (msh M b).1 = 1) (hM : MCr mX1_torn d [vp b] M P) (k : ∀ o M', P o M' → MW mX1_figure (d + 1) 23 L (vr o :: S) M' Q) (h8 : Nat.ble (S.map mcat).sum 8 = true := by rfl) : MW mX1_figure (d + 1) 20 L (vp b :: S) M Q := mw_callr (as := [vp b]) (site_V (Y' := mX1_torn) (n := 0) ⟨dX1_figure_20, rfl⟩ (Or.inl q410) q411 q414 wX1_torn nX1_torn hX1_torn (cls_of (ci := 1) rfl hs) rfl) kX1_torn (Nat.le_of_ble_eq_true h8) hM k
theorem iX1_figure_20_2 {d : Nat} {L S : List MV} {M : MH} {Q : Out → MH → Prop} {b : Nat} {P : Option Nat → MH → Prop} (hs : (msh M b).1 = 2) (hM : MCr mX1_torn d [vp b] M P) (k : ∀ o M', P o M' → MW mX1_figure (d + 1) 23 L (vr o :: S) M' Q) (h8 : Nat.ble (S.map mcat).sum 8 = true := by rfl) : MW mX1_figure (d + 1) 20 L (vp b :: S) M Q := mw_callr (as := [vp b]) (site_V (Y' := mX1_torn) (n := 0) ⟨dX1_figure_20, rfl⟩ (Or.inl q410) q411 q413 wX1_torn nX1_torn hX1_torn (cls_of (ci := 2) rfl hs) rfl) kX1_torn (Nat.le_of_ble_eq_true h8) hM k
theorem dX1_figure_23 : decode cX1_figure 23 = .ok (.athrow, 1) := dk_191 (dk_at dksX1_figure_0 23 rfl rfl)
theorem dX1_figure_24 : decode cX1_figure 24 = .ok (.aload_n 0, 1) := dk_42 (dk_at dksX1_figure_1 0 rfl rfl)
theorem iX1_figure_24 {d : Nat} {r S : List MV} {M : MH} {Q : Out → MH → Prop} {o : Option Nat} (k : MW mX1_figure d 25 (vr o :: r) (vr o :: S) M Q) : MW mX1_figure d 24 (vr o :: r) S M Q := mw_aload_n ⟨dX1_figure_24, rfl⟩ rfl k
theorem dX1_figure_25 : decode cX1_figure 25 = .ok (.dup, 1) := dk_89 (dk_at dksX1_figure_1 1 rfl rfl)
theorem iX1_figure_25 {d : Nat} {L S : List MV} {M : MH} {Q : Out → MH → Prop} {v : MV} (k : MW mX1_figure d 26 L (v :: v :: S) M Q) (hv : mcat v = 1 := by rfl) : MW mX1_figure d 25 L (v :: S) M Q := mw_dup ⟨dX1_figure_25, rfl⟩ hv k
theorem dX1_figure_26 : decode cX1_figure 26 = .ok (.getfield 30, 3) := dk_180 0 30 (dk_at dksX1_figure_1 2 rfl rfl)
theorem iX1_figure_26_1 {d : Nat} {L S : List MV} {M : MH} {Q : Out → MH → Prop} {a : Nat} (hs : (msh M a).1 = 1) (k : MW mX1_figure d 29 L (vi (miv M a 2) :: S) M Q) : MW mX1_figure d 26 L (vp a :: S) M Q := mw_getI (ci := 1) (k := 2) ⟨dX1_figure_26, rfl⟩ ⟨_, rfl, Nat.le_of_ble_eq_true rfl, Or.inl q164⟩ rfl hs k
theorem iX1_figure_26_2 {d : Nat} {L S : List MV} {M : MH} {Q : Out → MH → Prop} {a : Nat} (hs : (msh M a).1 = 2) (k : MW mX1_figure d 29 L (vi (miv M a 2) :: S) M Q) : MW mX1_figure d 26 L (vp a :: S) M Q := mw_getI (ci := 2) (k := 2) ⟨dX1_figure_26, rfl⟩ ⟨_, rfl, Nat.le_of_ble_eq_true rfl, Or.inl q164⟩ rfl hs k
theorem dX1_figure_29 : decode cX1_figure 29 = .ok (.iconst 1, 1) := dk_4 (dk_at dksX1_figure_1 5 rfl rfl)
theorem iX1_figure_29 {d : Nat} {L S : List MV} {M : MH} {Q : Out → MH → Prop}  (k : MW mX1_figure d 30 (L) (vi 1 :: S) M Q) : MW mX1_figure d 29 (L) S M Q := mw_iconst ⟨dX1_figure_29, rfl⟩ k
theorem dX1_figure_30 : decode cX1_figure 30 = .ok (.iadd, 1) := dk_96 (dk_at dksX1_figure_1 6 rfl rfl)
theorem iX1_figure_30 {d : Nat} {L S : List MV} {M : MH} {Q : Out → MH → Prop} {a b : Int} (k : MW mX1_figure d 31 (L) (vi (a + b) :: S) M Q) : MW mX1_figure d 30 (L) (vi b :: vi a :: S) M Q := mw_iadd ⟨dX1_figure_30, rfl⟩ k
theorem dX1_figure_31 : decode cX1_figure 31 = .ok (.putfield 30, 3) := dk_181 0 30 (dk_at dksX1_figure_1 7 rfl rfl)
theorem iX1_figure_31_1 {d : Nat} {L S : List MV} {M : MH} {Q : Out → MH → Prop} {a : Nat} {z : Int} (hs : (msh M a).1 = 1) (k : MW mX1_figure d 34 L S (wI M a 2 z) Q) : MW mX1_figure d 31 L (vi z :: vp a :: S) M Q := mw_putI (ci := 1) (k := 2) ⟨dX1_figure_31, rfl⟩ ⟨_, rfl, Nat.le_of_ble_eq_true rfl, Or.inl ⟨rfl, Or.inl q164⟩⟩ rfl hs k
theorem iX1_figure_31_2 {d : Nat} {L S : List MV} {M : MH} {Q : Out → MH → Prop} {a : Nat} {z : Int} (hs : (msh M a).1 = 2) (k : MW mX1_figure d 34 L S (wI M a 2 z) Q) : MW mX1_figure d 31 L (vi z :: vp a :: S) M Q := mw_putI (ci := 2) (k := 2) ⟨dX1_figure_31, rfl⟩ ⟨_, rfl, Nat.le_of_ble_eq_true rfl, Or.inl ⟨rfl, Or.inl q164⟩⟩ rfl hs k
theorem dX1_figure_34 : decode cX1_figure 34 = .ok (.iload_n 2, 1) := dk_28 (dk_at dksX1_figure_1 10 rfl rfl)
theorem iX1_figure_34 {d : Nat} {r S : List MV} {M : MH} {Q : Out → MH → Prop} {w0 w1 : MV} {z : Int} (k : MW mX1_figure d 35 (w0 :: w1 :: vi z :: r) (vi z :: S) M Q) : MW mX1_figure d 34 (w0 :: w1 :: vi z :: r) S M Q := mw_iload_n ⟨dX1_figure_34, rfl⟩ rfl k
theorem dX1_figure_35 : decode cX1_figure 35 = .ok (.ireturn, 1) := dk_172 (dk_at dksX1_figure_1 11 rfl rfl)
theorem iX1_figure_35 {d : Nat} {L : List MV} {M : MH} {P : Int → MH → Prop} {z : Int} (hq : P z M) : MW mX1_figure d 35 L [vi z] M (Ri P) := mw_reti ⟨dX1_figure_35, rfl⟩ rfl hq
/-! X1_size -/
def dkwX1_size_0 : List UInt8 := [42, 182, 0, 83, 87, 42, 180, 0, 12, 182, 0, 57, 172]
abbrev dktX1_size_0 : List UInt8 := dkwX1_size_0 ++ []
theorem dksX1_size_0 : cX1_size.data.toList.drop 0 = dktX1_size_0 := by decide +kernel
theorem dX1_size_0 : decode cX1_size 0 = .ok (.aload_n 0, 1) := dk_42 (dk_at dksX1_size_0 0 rfl rfl)
theorem iX1_size_0 {d : Nat} {r S : List MV} {M : MH} {Q : Out → MH → Prop} {o : Option Nat} (k : MW mX1_size d 1 (vr o :: r) (vr o :: S) M Q) : MW mX1_size d 0 (vr o :: r) S M Q := mw_aload_n ⟨dX1_size_0, rfl⟩ rfl k
theorem dX1_size_1 : decode cX1_size 1 = .ok (.invokevirtual 83, 3) := dk_182 0 83 (dk_at dksX1_size_0 1 rfl rfl)
theorem iX1_size_1_1 {d : Nat} {L S : List MV} {M : MH} {Q : Out → MH → Prop} {b : Nat} {P : Int → MH → Prop} (hs : (msh M b).1 = 1) (hM : MCi mX1_read d [vp b] M P) (k : ∀ z M', P z M' → MW mX1_size (d + 1) 4 L (vi z :: S) M' Q) (h8 : Nat.ble (S.map mcat).sum 8 = true := by rfl) : MW mX1_size (d + 1) 1 L (vp b :: S) M Q := mw_calli (as := [vp b]) (site_V (Y' := mX1_read) (n := 0) ⟨dX1_size_1, rfl⟩ (Or.inl q641) q376 q1600 wX1_read nX1_read hX1_read (cls_of (ci := 1) rfl hs) rfl) kX1_read (Nat.le_of_ble_eq_true h8) hM k
theorem iX1_size_1_2 {d : Nat} {L S : List MV} {M : MH} {Q : Out → MH → Prop} {b : Nat} {P : Int → MH → Prop} (hs : (msh M b).1 = 2) (hM : MCi mX1_read d [vp b] M P) (k : ∀ z M', P z M' → MW mX1_size (d + 1) 4 L (vi z :: S) M' Q) (h8 : Nat.ble (S.map mcat).sum 8 = true := by rfl) : MW mX1_size (d + 1) 1 L (vp b :: S) M Q := mw_calli (as := [vp b]) (site_V (Y' := mX1_read) (n := 0) ⟨dX1_size_1, rfl⟩ (Or.inl q641) q376 q1599 wX1_read nX1_read hX1_read (cls_of (ci := 2) rfl hs) rfl) kX1_read (Nat.le_of_ble_eq_true h8) hM k
theorem dX1_size_4 : decode cX1_size 4 = .ok (.pop, 1) := dk_87 (dk_at dksX1_size_0 4 rfl rfl)
theorem iX1_size_4 {d : Nat} {L S : List MV} {M : MH} {Q : Out → MH → Prop} {v : MV} (k : MW mX1_size d 5 L S M Q) (hv : mcat v = 1 := by rfl) : MW mX1_size d 4 L (v :: S) M Q := mw_pop ⟨dX1_size_4, rfl⟩ hv k
theorem dX1_size_5 : decode cX1_size 5 = .ok (.aload_n 0, 1) := dk_42 (dk_at dksX1_size_0 5 rfl rfl)
theorem iX1_size_5 {d : Nat} {r S : List MV} {M : MH} {Q : Out → MH → Prop} {o : Option Nat} (k : MW mX1_size d 6 (vr o :: r) (vr o :: S) M Q) : MW mX1_size d 5 (vr o :: r) S M Q := mw_aload_n ⟨dX1_size_5, rfl⟩ rfl k
theorem dX1_size_6 : decode cX1_size 6 = .ok (.getfield 12, 3) := dk_180 0 12 (dk_at dksX1_size_0 6 rfl rfl)
theorem iX1_size_6_1 {d : Nat} {L S : List MV} {M : MH} {Q : Out → MH → Prop} {a : Nat} {o : Option Nat} (hs : (msh M a).1 = 1) (hr : mrv M a 5 = o) (k : MW mX1_size d 9 L (vr o :: S) M Q) : MW mX1_size d 6 L (vp a :: S) M Q := mw_getR (ci := 1) (k := 5) ⟨dX1_size_6, rfl⟩ ⟨_, rfl, Nat.le_of_ble_eq_true rfl, Or.inl q167⟩ rfl hs hr k
theorem iX1_size_6_2 {d : Nat} {L S : List MV} {M : MH} {Q : Out → MH → Prop} {a : Nat} {o : Option Nat} (hs : (msh M a).1 = 2) (hr : mrv M a 5 = o) (k : MW mX1_size d 9 L (vr o :: S) M Q) : MW mX1_size d 6 L (vp a :: S) M Q := mw_getR (ci := 2) (k := 5) ⟨dX1_size_6, rfl⟩ ⟨_, rfl, Nat.le_of_ble_eq_true rfl, Or.inl q167⟩ rfl hs hr k
theorem dX1_size_9 : decode cX1_size 9 = .ok (.invokevirtual 57, 3) := dk_182 0 57 (dk_at dksX1_size_0 9 rfl rfl)
theorem iX1_size_9 {d : Nat} {L S : List MV} {M : MH} {Q : Out → MH → Prop} {b : Nat} {P : Int → MH → Prop} (hs : (msh M b).1 = 3) (hM : MCi mJ2_size d [vp b] M P) (k : ∀ z M', P z M' → MW mX1_size (d + 1) 12 L (vi z :: S) M' Q) (h8 : Nat.ble (S.map mcat).sum 8 = true := by rfl) : MW mX1_size (d + 1) 9 L (vp b :: S) M Q := mw_calli (as := [vp b]) (site_V (Y' := mJ2_size) (n := 0) ⟨dX1_size_9, rfl⟩ (Or.inl q481) q482 q483 wJ2_size nJ2_size hJ2_size (cls_of (ci := 3) rfl hs) rfl) kJ2_size (Nat.le_of_ble_eq_true h8) hM k
theorem dX1_size_12 : decode cX1_size 12 = .ok (.ireturn, 1) := dk_172 (dk_at dksX1_size_0 12 rfl rfl)
theorem iX1_size_12 {d : Nat} {L : List MV} {M : MH} {P : Int → MH → Prop} {z : Int} (hq : P z M) : MW mX1_size d 12 L [vi z] M (Ri P) := mw_reti ⟨dX1_size_12, rfl⟩ rfl hq
/-! X1_thing -/
def dkwX1_thing_0 : List UInt8 := [42, 180, 0, 12, 27, 182, 0, 86, 176]
abbrev dktX1_thing_0 : List UInt8 := dkwX1_thing_0 ++ []
theorem dksX1_thing_0 : cX1_thing.data.toList.drop 0 = dktX1_thing_0 := by decide +kernel
theorem dX1_thing_0 : decode cX1_thing 0 = .ok (.aload_n 0, 1) := dk_42 (dk_at dksX1_thing_0 0 rfl rfl)
theorem iX1_thing_0 {d : Nat} {r S : List MV} {M : MH} {Q : Out → MH → Prop} {o : Option Nat} (k : MW mX1_thing d 1 (vr o :: r) (vr o :: S) M Q) : MW mX1_thing d 0 (vr o :: r) S M Q := mw_aload_n ⟨dX1_thing_0, rfl⟩ rfl k
theorem dX1_thing_1 : decode cX1_thing 1 = .ok (.getfield 12, 3) := dk_180 0 12 (dk_at dksX1_thing_0 1 rfl rfl)
theorem iX1_thing_1_1 {d : Nat} {L S : List MV} {M : MH} {Q : Out → MH → Prop} {a : Nat} {o : Option Nat} (hs : (msh M a).1 = 1) (hr : mrv M a 5 = o) (k : MW mX1_thing d 4 L (vr o :: S) M Q) : MW mX1_thing d 1 L (vp a :: S) M Q := mw_getR (ci := 1) (k := 5) ⟨dX1_thing_1, rfl⟩ ⟨_, rfl, Nat.le_of_ble_eq_true rfl, Or.inl q167⟩ rfl hs hr k
theorem iX1_thing_1_2 {d : Nat} {L S : List MV} {M : MH} {Q : Out → MH → Prop} {a : Nat} {o : Option Nat} (hs : (msh M a).1 = 2) (hr : mrv M a 5 = o) (k : MW mX1_thing d 4 L (vr o :: S) M Q) : MW mX1_thing d 1 L (vp a :: S) M Q := mw_getR (ci := 2) (k := 5) ⟨dX1_thing_1, rfl⟩ ⟨_, rfl, Nat.le_of_ble_eq_true rfl, Or.inl q167⟩ rfl hs hr k
theorem dX1_thing_4 : decode cX1_thing 4 = .ok (.iload_n 1, 1) := dk_27 (dk_at dksX1_thing_0 4 rfl rfl)
theorem iX1_thing_4 {d : Nat} {r S : List MV} {M : MH} {Q : Out → MH → Prop} {w0 : MV} {z : Int} (k : MW mX1_thing d 5 (w0 :: vi z :: r) (vi z :: S) M Q) : MW mX1_thing d 4 (w0 :: vi z :: r) S M Q := mw_iload_n ⟨dX1_thing_4, rfl⟩ rfl k
theorem dX1_thing_5 : decode cX1_thing 5 = .ok (.invokevirtual 86, 3) := dk_182 0 86 (dk_at dksX1_thing_0 5 rfl rfl)
theorem iX1_thing_5 {d : Nat} {L S : List MV} {M : MH} {Q : Out → MH → Prop} {v1 : MV} {b : Nat} {P : Option Nat → MH → Prop} (hs : (msh M b).1 = 3) (hM : MCr mJ2_get d [vp b, v1] M P) (k : ∀ o M', P o M' → MW mX1_thing (d + 1) 8 L (vr o :: S) M' Q) (h8 : Nat.ble (S.map mcat).sum 8 = true := by rfl) : MW mX1_thing (d + 1) 5 L (v1 :: vp b :: S) M Q := mw_callr (as := [vp b, v1]) (site_V (Y' := mJ2_get) (n := 1) ⟨dX1_thing_5, rfl⟩ (Or.inl q657) q658 q659 wJ2_get nJ2_get hJ2_get (cls_of (ci := 3) rfl hs) rfl) kJ2_get (Nat.le_of_ble_eq_true h8) hM k
theorem dX1_thing_8 : decode cX1_thing 8 = .ok (.areturn, 1) := dk_176 (dk_at dksX1_thing_0 8 rfl rfl)
theorem iX1_thing_8 {d : Nat} {L : List MV} {M : MH} {P : Option Nat → MH → Prop} {o : Option Nat} (hq : P o M) : MW mX1_thing d 8 L [vr o] M (Rr P) := mw_retr ⟨dX1_thing_8, rfl⟩ rfl (Or.inl ⟨_, rfl⟩) hq
/-! X1_length -/
theorem dX1_length_0 : decode cX1_length 0 = .ok (.aload_n 0, 1) := by decide +kernel
theorem iX1_length_0 {d : Nat} {r S : List MV} {M : MH} {Q : Out → MH → Prop} {o : Option Nat} (k : MW mX1_length d 1 (vr o :: r) (vr o :: S) M Q) : MW mX1_length d 0 (vr o :: r) S M Q := mw_aload_n ⟨dX1_length_0, rfl⟩ rfl k
theorem dX1_length_1 : decode cX1_length 1 = .ok (.getfield 22, 3) := by decide +kernel
theorem iX1_length_1_1 {d : Nat} {L S : List MV} {M : MH} {Q : Out → MH → Prop} {a : Nat} (hs : (msh M a).1 = 1) (k : MW mX1_length d 4 L (vi (miv M a 1) :: S) M Q) : MW mX1_length d 1 L (vp a :: S) M Q := mw_getI (ci := 1) (k := 1) ⟨dX1_length_1, rfl⟩ ⟨_, rfl, Nat.le_of_ble_eq_true rfl, Or.inl q163⟩ rfl hs k
theorem iX1_length_1_2 {d : Nat} {L S : List MV} {M : MH} {Q : Out → MH → Prop} {a : Nat} (hs : (msh M a).1 = 2) (k : MW mX1_length d 4 L (vi (miv M a 1) :: S) M Q) : MW mX1_length d 1 L (vp a :: S) M Q := mw_getI (ci := 2) (k := 1) ⟨dX1_length_1, rfl⟩ ⟨_, rfl, Nat.le_of_ble_eq_true rfl, Or.inl q163⟩ rfl hs k
theorem dX1_length_4 : decode cX1_length 4 = .ok (.ireturn, 1) := by decide +kernel
theorem iX1_length_4 {d : Nat} {L : List MV} {M : MH} {P : Int → MH → Prop} {z : Int} (hq : P z M) : MW mX1_length d 4 L [vi z] M (Ri P) := mw_reti ⟨dX1_length_4, rfl⟩ rfl hq
/-! X2_init -/
def dkwX2_init_0 : List UInt8 := [42, 16, 30, 183, 0, 3, 177]
abbrev dktX2_init_0 : List UInt8 := dkwX2_init_0 ++ []
theorem dksX2_init_0 : cX2_init.data.toList.drop 0 = dktX2_init_0 := by decide +kernel
theorem dX2_init_0 : decode cX2_init 0 = .ok (.aload_n 0, 1) := dk_42 (dk_at dksX2_init_0 0 rfl rfl)
theorem iX2_init_0 {d : Nat} {r S : List MV} {M : MH} {Q : Out → MH → Prop} {o : Option Nat} (k : MW mX2_init d 1 (vr o :: r) (vr o :: S) M Q) : MW mX2_init d 0 (vr o :: r) S M Q := mw_aload_n ⟨dX2_init_0, rfl⟩ rfl k
theorem dX2_init_1 : decode cX2_init 1 = .ok (.bipush 30, 2) := dk_16 30 (dk_at dksX2_init_0 1 rfl rfl)
theorem iX2_init_1 {d : Nat} {L S : List MV} {M : MH} {Q : Out → MH → Prop}  (k : MW mX2_init d 3 (L) (vi 30 :: S) M Q) : MW mX2_init d 1 (L) S M Q := mw_bipush ⟨dX2_init_1, rfl⟩ (by decide) k
theorem dX2_init_3 : decode cX2_init 3 = .ok (.invokespecial 3, 3) := dk_183 0 3 (dk_at dksX2_init_0 3 rfl rfl)
theorem iX2_init_3 {d : Nat} {L S : List MV} {M : MH} {Q : Out → MH → Prop} {v1 : MV} {b : Nat} {P : MH → Prop} (hM : MCv mX1_init d [vp b, v1] M P) (k : ∀ M', P M' → MW mX2_init (d + 1) 6 L S M' Q) (h8 : Nat.ble (S.map mcat).sum 8 = true := by rfl) : MW mX2_init (d + 1) 3 L (v1 :: vp b :: S) M Q := mw_callv (as := [vp b, v1]) (site_I (Y' := mX1_init) (n := 1) ⟨dX2_init_3, rfl⟩ (Or.inl q132) q133 q134 rfl nX1_init hX1_init rfl) kX1_init (Nat.le_of_ble_eq_true h8) hM k
theorem dX2_init_6 : decode cX2_init 6 = .ok (.return_, 1) := dk_177 (dk_at dksX2_init_0 6 rfl rfl)
theorem iX2_init_6 {d : Nat} {L : List MV} {M : MH} {P : MH → Prop} (hq : P M) : MW mX2_init d 6 L [] M (Rv P) := mw_retv ⟨dX2_init_6, rfl⟩ rfl hq
/-! X2_between -/
theorem dX2_between_0 : decode cX2_between 0 = .ok (.bipush 59, 2) := by decide +kernel
theorem iX2_between_0 {d : Nat} {L S : List MV} {M : MH} {Q : Out → MH → Prop}  (k : MW mX2_between d 2 (L) (vi 59 :: S) M Q) : MW mX2_between d 0 (L) S M Q := mw_bipush ⟨dX2_between_0, rfl⟩ (by decide) k
theorem dX2_between_2 : decode cX2_between 2 = .ok (.ireturn, 1) := by decide +kernel
theorem iX2_between_2 {d : Nat} {L : List MV} {M : MH} {P : Int → MH → Prop} {z : Int} (hq : P z M) : MW mX2_between d 2 L [vi z] M (Ri P) := mw_reti ⟨dX2_between_2, rfl⟩ rfl hq
/-! X2_reads -/
theorem dX2_reads_0 : decode cX2_reads 0 = .ok (.aload_n 0, 1) := by decide +kernel
theorem iX2_reads_0 {d : Nat} {r S : List MV} {M : MH} {Q : Out → MH → Prop} {o : Option Nat} (k : MW mX2_reads d 1 (vr o :: r) (vr o :: S) M Q) : MW mX2_reads d 0 (vr o :: r) S M Q := mw_aload_n ⟨dX2_reads_0, rfl⟩ rfl k
theorem dX2_reads_1 : decode cX2_reads 1 = .ok (.invokevirtual 20, 3) := by decide +kernel
theorem iX2_reads_1 {d : Nat} {L S : List MV} {M : MH} {Q : Out → MH → Prop} {b : Nat} {P : Option Nat → MH → Prop} (hs : (msh M b).1 = 1) (hM : MCr mX2_reads_2 d [vp b] M P) (k : ∀ o M', P o M' → MW mX2_reads (d + 1) 4 L (vr o :: S) M' Q) (h8 : Nat.ble (S.map mcat).sum 8 = true := by rfl) : MW mX2_reads (d + 1) 1 L (vp b :: S) M Q := mw_callr (as := [vp b]) (site_V (Y' := mX2_reads_2) (n := 0) ⟨dX2_reads_1, rfl⟩ (Or.inl q534) q535 q536 wX2_reads_2 nX2_reads_2 hX2_reads_2 (cls_of (ci := 1) rfl hs) rfl) kX2_reads_2 (Nat.le_of_ble_eq_true h8) hM k
theorem iX2_reads_1T {d : Nat} {L S : List MV} {M : MH} {Q : Out → MH → Prop} {b : Nat} {Qs : Out → MH → Prop} (hs : (msh M b).1 = 1) (hM : MC mX2_reads_2 d [vp b] M Qs) (kr : ∀ v M', Qs (.inl v) M' → MW mX2_reads (d + 1) 4 L (v.toList ++ S) M' Q) (kt : ∀ a M', Qs (.inr a) M' → MX mX2_reads (d + 1) 1 L M' a Q) (h8 : Nat.ble (S.map mcat).sum 8 = true := by rfl) : MW mX2_reads (d + 1) 1 L (vp b :: S) M Q := mw_call (as := [vp b]) (site_V (Y' := mX2_reads_2) (n := 0) ⟨dX2_reads_1, rfl⟩ (Or.inl q534) q535 q536 wX2_reads_2 nX2_reads_2 hX2_reads_2 (cls_of (ci := 1) rfl hs) rfl) kX2_reads_2.1 kX2_reads_2.2.1 kX2_reads_2.2.2.1 (Nat.le_of_ble_eq_true h8) hM kX2_reads_2.2.2.2 kr kt
theorem dX2_reads_4 : decode cX2_reads 4 = .ok (.areturn, 1) := by decide +kernel
theorem iX2_reads_4 {d : Nat} {L : List MV} {M : MH} {P : Option Nat → MH → Prop} {o : Option Nat} (hq : P o M) : MW mX2_reads d 4 L [vr o] M (Rr P) := mw_retr ⟨dX2_reads_4, rfl⟩ rfl (Or.inl ⟨_, rfl⟩) hq
/-! X2_reads_2 -/
def dkwX2_reads_2_0 : List UInt8 := [42, 16, 7, 182, 0, 9, 60, 187, 0, 15, 89, 27, 42, 16, 9, 182, 0, 9, 183, 0, 17, 176]
abbrev dktX2_reads_2_0 : List UInt8 := dkwX2_reads_2_0 ++ []
theorem dksX2_reads_2_0 : cX2_reads_2.data.toList.drop 0 = dktX2_reads_2_0 := by decide +kernel
theorem dX2_reads_2_0 : decode cX2_reads_2 0 = .ok (.aload_n 0, 1) := dk_42 (dk_at dksX2_reads_2_0 0 rfl rfl)
theorem iX2_reads_2_0 {d : Nat} {r S : List MV} {M : MH} {Q : Out → MH → Prop} {o : Option Nat} (k : MW mX2_reads_2 d 1 (vr o :: r) (vr o :: S) M Q) : MW mX2_reads_2 d 0 (vr o :: r) S M Q := mw_aload_n ⟨dX2_reads_2_0, rfl⟩ rfl k
theorem dX2_reads_2_1 : decode cX2_reads_2 1 = .ok (.bipush 7, 2) := dk_16 7 (dk_at dksX2_reads_2_0 1 rfl rfl)
theorem iX2_reads_2_1 {d : Nat} {L S : List MV} {M : MH} {Q : Out → MH → Prop}  (k : MW mX2_reads_2 d 3 (L) (vi 7 :: S) M Q) : MW mX2_reads_2 d 1 (L) S M Q := mw_bipush ⟨dX2_reads_2_1, rfl⟩ (by decide) k
theorem dX2_reads_2_3 : decode cX2_reads_2 3 = .ok (.invokevirtual 9, 3) := dk_182 0 9 (dk_at dksX2_reads_2_0 3 rfl rfl)
theorem iX2_reads_2_3 {d : Nat} {L S : List MV} {M : MH} {Q : Out → MH → Prop} {v1 : MV} {b : Nat} {P : Int → MH → Prop} (hs : (msh M b).1 = 1) (hM : MCi mX1_figure d [vp b, v1] M P) (k : ∀ z M', P z M' → MW mX2_reads_2 (d + 1) 6 L (vi z :: S) M' Q) (h8 : Nat.ble (S.map mcat).sum 8 = true := by rfl) : MW mX2_reads_2 (d + 1) 3 L (v1 :: vp b :: S) M Q := mw_calli (as := [vp b, v1]) (site_U (Y' := mX1_figure) (n := 1) (x := ⟨"SoldWithIt$Row", "figure", "(I)I"⟩) ⟨dX2_reads_2_3, rfl⟩ q538 q539 (Or.inl (lw_b q513 rfl)) ⟨by decide +kernel, by decide +kernel⟩ q515 q540 wX1_figure rfl nX1_figure (cls_of (ci := 1) rfl hs) rfl) kX1_figure (Nat.le_of_ble_eq_true h8) hM k
theorem iX2_reads_2_3T {d : Nat} {L S : List MV} {M : MH} {Q : Out → MH → Prop} {v1 : MV} {b : Nat} {Qs : Out → MH → Prop} (hs : (msh M b).1 = 1) (hM : MC mX1_figure d [vp b, v1] M Qs) (kr : ∀ v M', Qs (.inl v) M' → MW mX2_reads_2 (d + 1) 6 L (v.toList ++ S) M' Q) (kt : ∀ a M', Qs (.inr a) M' → MX mX2_reads_2 (d + 1) 3 L M' a Q) (h8 : Nat.ble (S.map mcat).sum 8 = true := by rfl) : MW mX2_reads_2 (d + 1) 3 L (v1 :: vp b :: S) M Q := mw_call (as := [vp b, v1]) (site_U (Y' := mX1_figure) (n := 1) (x := ⟨"SoldWithIt$Row", "figure", "(I)I"⟩) ⟨dX2_reads_2_3, rfl⟩ q538 q539 (Or.inl (lw_b q513 rfl)) ⟨by decide +kernel, by decide +kernel⟩ q515 q540 wX1_figure rfl nX1_figure (cls_of (ci := 1) rfl hs) rfl) kX1_figure.1 kX1_figure.2.1 kX1_figure.2.2.1 (Nat.le_of_ble_eq_true h8) hM kX1_figure.2.2.2 kr kt
theorem dX2_reads_2_6 : decode cX2_reads_2 6 = .ok (.istore_n 1, 1) := dk_60 (dk_at dksX2_reads_2_0 6 rfl rfl)
theorem iX2_reads_2_6 {d : Nat} {r S : List MV} {M : MH} {Q : Out → MH → Prop} {w0 : MV} {z : Int} {v : MV} (k : MW mX2_reads_2 d 7 (w0 :: vi z :: r) S M Q) (hok : okSt (w0 :: v :: r) 1 = true := by rfl) : MW mX2_reads_2 d 6 (w0 :: v :: r) (vi z :: S) M Q := mw_istore_n (i := 1) ⟨dX2_reads_2_6, rfl⟩ rfl (Nat.le_of_ble_eq_true rfl) hok k
theorem dX2_reads_2_7 : decode cX2_reads_2 7 = .ok (.new 15, 3) := dk_187 0 15 (dk_at dksX2_reads_2_0 7 rfl rfl)
theorem iX2_reads_2_7 {d : Nat} {L S : List MV} {M : MH} {Q : Out → MH → Prop} (hcap : mhn M + 1 ≤ mNC) (hcas : mhs M + 2 ≤ mNS) (k : MW mX2_reads_2 d 10 L (vp (mhn M) :: S) (wN M 4 2) Q) : MW mX2_reads_2 d 7 L S M Q := mw_new (ci := 4) ⟨dX2_reads_2_7, rfl⟩ rfl q541 q542 q105 hcap hcas k
theorem dX2_reads_2_10 : decode cX2_reads_2 10 = .ok (.dup, 1) := dk_89 (dk_at dksX2_reads_2_0 10 rfl rfl)
theorem iX2_reads_2_10 {d : Nat} {L S : List MV} {M : MH} {Q : Out → MH → Prop} {v : MV} (k : MW mX2_reads_2 d 11 L (v :: v :: S) M Q) (hv : mcat v = 1 := by rfl) : MW mX2_reads_2 d 10 L (v :: S) M Q := mw_dup ⟨dX2_reads_2_10, rfl⟩ hv k
theorem dX2_reads_2_11 : decode cX2_reads_2 11 = .ok (.iload_n 1, 1) := dk_27 (dk_at dksX2_reads_2_0 11 rfl rfl)
theorem iX2_reads_2_11 {d : Nat} {r S : List MV} {M : MH} {Q : Out → MH → Prop} {w0 : MV} {z : Int} (k : MW mX2_reads_2 d 12 (w0 :: vi z :: r) (vi z :: S) M Q) : MW mX2_reads_2 d 11 (w0 :: vi z :: r) S M Q := mw_iload_n ⟨dX2_reads_2_11, rfl⟩ rfl k
theorem dX2_reads_2_12 : decode cX2_reads_2 12 = .ok (.aload_n 0, 1) := dk_42 (dk_at dksX2_reads_2_0 12 rfl rfl)
theorem iX2_reads_2_12 {d : Nat} {r S : List MV} {M : MH} {Q : Out → MH → Prop} {o : Option Nat} (k : MW mX2_reads_2 d 13 (vr o :: r) (vr o :: S) M Q) : MW mX2_reads_2 d 12 (vr o :: r) S M Q := mw_aload_n ⟨dX2_reads_2_12, rfl⟩ rfl k
theorem dX2_reads_2_13 : decode cX2_reads_2 13 = .ok (.bipush 9, 2) := dk_16 9 (dk_at dksX2_reads_2_0 13 rfl rfl)
theorem iX2_reads_2_13 {d : Nat} {L S : List MV} {M : MH} {Q : Out → MH → Prop}  (k : MW mX2_reads_2 d 15 (L) (vi 9 :: S) M Q) : MW mX2_reads_2 d 13 (L) S M Q := mw_bipush ⟨dX2_reads_2_13, rfl⟩ (by decide) k
theorem dX2_reads_2_15 : decode cX2_reads_2 15 = .ok (.invokevirtual 9, 3) := dk_182 0 9 (dk_at dksX2_reads_2_0 15 rfl rfl)
theorem iX2_reads_2_15 {d : Nat} {L S : List MV} {M : MH} {Q : Out → MH → Prop} {v1 : MV} {b : Nat} {P : Int → MH → Prop} (hs : (msh M b).1 = 1) (hM : MCi mX1_figure d [vp b, v1] M P) (k : ∀ z M', P z M' → MW mX2_reads_2 (d + 1) 18 L (vi z :: S) M' Q) (h8 : Nat.ble (S.map mcat).sum 8 = true := by rfl) : MW mX2_reads_2 (d + 1) 15 L (v1 :: vp b :: S) M Q := mw_calli (as := [vp b, v1]) (site_U (Y' := mX1_figure) (n := 1) (x := ⟨"SoldWithIt$Row", "figure", "(I)I"⟩) ⟨dX2_reads_2_15, rfl⟩ q538 q539 (Or.inl (lw_b q513 rfl)) ⟨by decide +kernel, by decide +kernel⟩ q515 q540 wX1_figure rfl nX1_figure (cls_of (ci := 1) rfl hs) rfl) kX1_figure (Nat.le_of_ble_eq_true h8) hM k
theorem iX2_reads_2_15T {d : Nat} {L S : List MV} {M : MH} {Q : Out → MH → Prop} {v1 : MV} {b : Nat} {Qs : Out → MH → Prop} (hs : (msh M b).1 = 1) (hM : MC mX1_figure d [vp b, v1] M Qs) (kr : ∀ v M', Qs (.inl v) M' → MW mX2_reads_2 (d + 1) 18 L (v.toList ++ S) M' Q) (kt : ∀ a M', Qs (.inr a) M' → MX mX2_reads_2 (d + 1) 15 L M' a Q) (h8 : Nat.ble (S.map mcat).sum 8 = true := by rfl) : MW mX2_reads_2 (d + 1) 15 L (v1 :: vp b :: S) M Q := mw_call (as := [vp b, v1]) (site_U (Y' := mX1_figure) (n := 1) (x := ⟨"SoldWithIt$Row", "figure", "(I)I"⟩) ⟨dX2_reads_2_15, rfl⟩ q538 q539 (Or.inl (lw_b q513 rfl)) ⟨by decide +kernel, by decide +kernel⟩ q515 q540 wX1_figure rfl nX1_figure (cls_of (ci := 1) rfl hs) rfl) kX1_figure.1 kX1_figure.2.1 kX1_figure.2.2.1 (Nat.le_of_ble_eq_true h8) hM kX1_figure.2.2.2 kr kt
theorem dX2_reads_2_18 : decode cX2_reads_2 18 = .ok (.invokespecial 17, 3) := dk_183 0 17 (dk_at dksX2_reads_2_0 18 rfl rfl)
theorem iX2_reads_2_18 {d : Nat} {L S : List MV} {M : MH} {Q : Out → MH → Prop} {v1 v2 : MV} {b : Nat} {P : MH → Prop} (hM : MCv mX10_init d [vp b, v1, v2] M P) (k : ∀ M', P M' → MW mX2_reads_2 (d + 1) 21 L S M' Q) (h8 : Nat.ble (S.map mcat).sum 8 = true := by rfl) : MW mX2_reads_2 (d + 1) 18 L (v2 :: v1 :: vp b :: S) M Q := mw_callv (as := [vp b, v1, v2]) (site_I (Y' := mX10_init) (n := 2) ⟨dX2_reads_2_18, rfl⟩ (Or.inl q543) q544 q545 rfl nX10_init hX10_init rfl) kX10_init (Nat.le_of_ble_eq_true h8) hM k
theorem dX2_reads_2_21 : decode cX2_reads_2 21 = .ok (.areturn, 1) := dk_176 (dk_at dksX2_reads_2_0 21 rfl rfl)
theorem iX2_reads_2_21 {d : Nat} {L : List MV} {M : MH} {P : Option Nat → MH → Prop} {o : Option Nat} (hq : P o M) : MW mX2_reads_2 d 21 L [vr o] M (Rr P) := mw_retr ⟨dX2_reads_2_21, rfl⟩ rfl (Or.inl ⟨_, rfl⟩) hq
/-! X3_init -/
def dkwX3_init_0 : List UInt8 := [42, 16, 24, 183, 0, 3, 177]
abbrev dktX3_init_0 : List UInt8 := dkwX3_init_0 ++ []
theorem dksX3_init_0 : cX3_init.data.toList.drop 0 = dktX3_init_0 := by decide +kernel
theorem dX3_init_0 : decode cX3_init 0 = .ok (.aload_n 0, 1) := dk_42 (dk_at dksX3_init_0 0 rfl rfl)
theorem iX3_init_0 {d : Nat} {r S : List MV} {M : MH} {Q : Out → MH → Prop} {o : Option Nat} (k : MW mX3_init d 1 (vr o :: r) (vr o :: S) M Q) : MW mX3_init d 0 (vr o :: r) S M Q := mw_aload_n ⟨dX3_init_0, rfl⟩ rfl k
theorem dX3_init_1 : decode cX3_init 1 = .ok (.bipush 24, 2) := dk_16 24 (dk_at dksX3_init_0 1 rfl rfl)
theorem iX3_init_1 {d : Nat} {L S : List MV} {M : MH} {Q : Out → MH → Prop}  (k : MW mX3_init d 3 (L) (vi 24 :: S) M Q) : MW mX3_init d 1 (L) S M Q := mw_bipush ⟨dX3_init_1, rfl⟩ (by decide) k
theorem dX3_init_3 : decode cX3_init 3 = .ok (.invokespecial 3, 3) := dk_183 0 3 (dk_at dksX3_init_0 3 rfl rfl)
theorem iX3_init_3 {d : Nat} {L S : List MV} {M : MH} {Q : Out → MH → Prop} {v1 : MV} {b : Nat} {P : MH → Prop} (hM : MCv mX1_init d [vp b, v1] M P) (k : ∀ M', P M' → MW mX3_init (d + 1) 6 L S M' Q) (h8 : Nat.ble (S.map mcat).sum 8 = true := by rfl) : MW mX3_init (d + 1) 3 L (v1 :: vp b :: S) M Q := mw_callv (as := [vp b, v1]) (site_I (Y' := mX1_init) (n := 1) ⟨dX3_init_3, rfl⟩ (Or.inl q187) q133 q134 rfl nX1_init hX1_init rfl) kX1_init (Nat.le_of_ble_eq_true h8) hM k
theorem dX3_init_6 : decode cX3_init 6 = .ok (.return_, 1) := dk_177 (dk_at dksX3_init_0 6 rfl rfl)
theorem iX3_init_6 {d : Nat} {L : List MV} {M : MH} {P : MH → Prop} (hq : P M) : MW mX3_init d 6 L [] M (Rv P) := mw_retv ⟨dX3_init_6, rfl⟩ rfl hq
/-! X3_between -/
theorem dX3_between_0 : decode cX3_between 0 = .ok (.iconst (-1), 1) := by decide +kernel
theorem iX3_between_0 {d : Nat} {L S : List MV} {M : MH} {Q : Out → MH → Prop}  (k : MW mX3_between d 1 (L) (vi (-1) :: S) M Q) : MW mX3_between d 0 (L) S M Q := mw_iconst ⟨dX3_between_0, rfl⟩ k
theorem dX3_between_1 : decode cX3_between 1 = .ok (.ireturn, 1) := by decide +kernel
theorem iX3_between_1 {d : Nat} {L : List MV} {M : MH} {P : Int → MH → Prop} {z : Int} (hq : P z M) : MW mX3_between d 1 L [vi z] M (Ri P) := mw_reti ⟨dX3_between_1, rfl⟩ rfl hq
/-! X3_reads -/
theorem dX3_reads_0 : decode cX3_reads 0 = .ok (.aload_n 0, 1) := by decide +kernel
theorem iX3_reads_0 {d : Nat} {r S : List MV} {M : MH} {Q : Out → MH → Prop} {o : Option Nat} (k : MW mX3_reads d 1 (vr o :: r) (vr o :: S) M Q) : MW mX3_reads d 0 (vr o :: r) S M Q := mw_aload_n ⟨dX3_reads_0, rfl⟩ rfl k
theorem dX3_reads_1 : decode cX3_reads 1 = .ok (.invokevirtual 32, 3) := by decide +kernel
theorem iX3_reads_1 {d : Nat} {L S : List MV} {M : MH} {Q : Out → MH → Prop} {b : Nat} {P : Option Nat → MH → Prop} (hs : (msh M b).1 = 2) (hM : MCr mX3_reads_2 d [vp b] M P) (k : ∀ o M', P o M' → MW mX3_reads (d + 1) 4 L (vr o :: S) M' Q) (h8 : Nat.ble (S.map mcat).sum 8 = true := by rfl) : MW mX3_reads (d + 1) 1 L (vp b :: S) M Q := mw_callr (as := [vp b]) (site_V (Y' := mX3_reads_2) (n := 0) ⟨dX3_reads_1, rfl⟩ (Or.inl q491) q492 q493 wX3_reads_2 nX3_reads_2 hX3_reads_2 (cls_of (ci := 2) rfl hs) rfl) kX3_reads_2 (Nat.le_of_ble_eq_true h8) hM k
theorem iX3_reads_1T {d : Nat} {L S : List MV} {M : MH} {Q : Out → MH → Prop} {b : Nat} {Qs : Out → MH → Prop} (hs : (msh M b).1 = 2) (hM : MC mX3_reads_2 d [vp b] M Qs) (kr : ∀ v M', Qs (.inl v) M' → MW mX3_reads (d + 1) 4 L (v.toList ++ S) M' Q) (kt : ∀ a M', Qs (.inr a) M' → MX mX3_reads (d + 1) 1 L M' a Q) (h8 : Nat.ble (S.map mcat).sum 8 = true := by rfl) : MW mX3_reads (d + 1) 1 L (vp b :: S) M Q := mw_call (as := [vp b]) (site_V (Y' := mX3_reads_2) (n := 0) ⟨dX3_reads_1, rfl⟩ (Or.inl q491) q492 q493 wX3_reads_2 nX3_reads_2 hX3_reads_2 (cls_of (ci := 2) rfl hs) rfl) kX3_reads_2.1 kX3_reads_2.2.1 kX3_reads_2.2.2.1 (Nat.le_of_ble_eq_true h8) hM kX3_reads_2.2.2.2 kr kt
theorem dX3_reads_4 : decode cX3_reads 4 = .ok (.areturn, 1) := by decide +kernel
theorem iX3_reads_4 {d : Nat} {L : List MV} {M : MH} {P : Option Nat → MH → Prop} {o : Option Nat} (hq : P o M) : MW mX3_reads d 4 L [vr o] M (Rr P) := mw_retr ⟨dX3_reads_4, rfl⟩ rfl (Or.inl ⟨_, rfl⟩) hq
/-! X3_reads_2 -/
def dkwX3_reads_2_3 : List UInt8 := [182, 0, 25, 183, 0, 29, 176, 42, 182, 0, 19, 187, 0, 23, 89, 28, 16, 8, 183, 0, 29, 176]
abbrev dktX3_reads_2_3 : List UInt8 := dkwX3_reads_2_3 ++ []
def dkwX3_reads_2_2 : List UInt8 := [191, 42, 182, 0, 19, 42, 182, 0, 9, 16, 45, 159, 0, 18, 187, 0, 23, 89, 28, 42, 16, 7]
abbrev dktX3_reads_2_2 : List UInt8 := dkwX3_reads_2_2 ++ dktX3_reads_2_3
def dkwX3_reads_2_1 : List UInt8 := [167, 0, 14, 27, 16, 108, 160, 0, 7, 5, 167, 0, 4, 2, 61, 28, 2, 160, 0, 8, 42, 182, 0, 15]
abbrev dktX3_reads_2_1 : List UInt8 := dkwX3_reads_2_1 ++ dktX3_reads_2_2
def dkwX3_reads_2_0 : List UInt8 := [42, 182, 0, 9, 60, 27, 16, 111, 160, 0, 7, 3, 167, 0, 24, 27, 16, 103, 160, 0, 7, 4]
abbrev dktX3_reads_2_0 : List UInt8 := dkwX3_reads_2_0 ++ dktX3_reads_2_1
theorem dksX3_reads_2_0 : cX3_reads_2.data.toList.drop 0 = dktX3_reads_2_0 := by decide +kernel
theorem dksX3_reads_2_1 : cX3_reads_2.data.toList.drop 22 = dktX3_reads_2_1 := dk_seg dksX3_reads_2_0 22 rfl rfl
theorem dksX3_reads_2_2 : cX3_reads_2.data.toList.drop 46 = dktX3_reads_2_2 := dk_seg dksX3_reads_2_1 24 rfl rfl
theorem dksX3_reads_2_3 : cX3_reads_2.data.toList.drop 68 = dktX3_reads_2_3 := dk_seg dksX3_reads_2_2 22 rfl rfl
theorem dX3_reads_2_0 : decode cX3_reads_2 0 = .ok (.aload_n 0, 1) := dk_42 (dk_at dksX3_reads_2_0 0 rfl rfl)
theorem iX3_reads_2_0 {d : Nat} {r S : List MV} {M : MH} {Q : Out → MH → Prop} {o : Option Nat} (k : MW mX3_reads_2 d 1 (vr o :: r) (vr o :: S) M Q) : MW mX3_reads_2 d 0 (vr o :: r) S M Q := mw_aload_n ⟨dX3_reads_2_0, rfl⟩ rfl k
theorem dX3_reads_2_1 : decode cX3_reads_2 1 = .ok (.invokevirtual 9, 3) := dk_182 0 9 (dk_at dksX3_reads_2_0 1 rfl rfl)
theorem iX3_reads_2_1 {d : Nat} {L S : List MV} {M : MH} {Q : Out → MH → Prop} {b : Nat} {P : Int → MH → Prop} (hs : (msh M b).1 = 2) (hM : MCi mX1_here d [vp b] M P) (k : ∀ z M', P z M' → MW mX3_reads_2 (d + 1) 4 L (vi z :: S) M' Q) (h8 : Nat.ble (S.map mcat).sum 8 = true := by rfl) : MW mX3_reads_2 (d + 1) 1 L (vp b :: S) M Q := mw_calli (as := [vp b]) (site_U (Y' := mX1_here) (n := 0) (x := ⟨"SoldWithIt$Folk", "here", "()I"⟩) ⟨dX3_reads_2_1, rfl⟩ q495 q496 (Or.inl (lw_b q497 rfl)) ⟨by decide +kernel, by decide +kernel⟩ q405 q498 wX1_here rfl nX1_here (cls_of (ci := 2) rfl hs) rfl) kX1_here (Nat.le_of_ble_eq_true h8) hM k
theorem dX3_reads_2_4 : decode cX3_reads_2 4 = .ok (.istore_n 1, 1) := dk_60 (dk_at dksX3_reads_2_0 4 rfl rfl)
theorem iX3_reads_2_4 {d : Nat} {r S : List MV} {M : MH} {Q : Out → MH → Prop} {w0 : MV} {z : Int} {v : MV} (k : MW mX3_reads_2 d 5 (w0 :: vi z :: r) S M Q) (hok : okSt (w0 :: v :: r) 1 = true := by rfl) : MW mX3_reads_2 d 4 (w0 :: v :: r) (vi z :: S) M Q := mw_istore_n (i := 1) ⟨dX3_reads_2_4, rfl⟩ rfl (Nat.le_of_ble_eq_true rfl) hok k
theorem dX3_reads_2_5 : decode cX3_reads_2 5 = .ok (.iload_n 1, 1) := dk_27 (dk_at dksX3_reads_2_0 5 rfl rfl)
theorem iX3_reads_2_5 {d : Nat} {r S : List MV} {M : MH} {Q : Out → MH → Prop} {w0 : MV} {z : Int} (k : MW mX3_reads_2 d 6 (w0 :: vi z :: r) (vi z :: S) M Q) : MW mX3_reads_2 d 5 (w0 :: vi z :: r) S M Q := mw_iload_n ⟨dX3_reads_2_5, rfl⟩ rfl k
theorem dX3_reads_2_6 : decode cX3_reads_2 6 = .ok (.bipush 111, 2) := dk_16 111 (dk_at dksX3_reads_2_0 6 rfl rfl)
theorem iX3_reads_2_6 {d : Nat} {L S : List MV} {M : MH} {Q : Out → MH → Prop}  (k : MW mX3_reads_2 d 8 (L) (vi 111 :: S) M Q) : MW mX3_reads_2 d 6 (L) S M Q := mw_bipush ⟨dX3_reads_2_6, rfl⟩ (by decide) k
theorem dX3_reads_2_8 : decode cX3_reads_2 8 = .ok (.if_icmp .ne 7, 3) := dk_160 0 7 (dk_at dksX3_reads_2_0 8 rfl rfl)
theorem iX3_reads_2_8 {d : Nat} {L S : List MV} {M : MH} {Q : Out → MH → Prop} {a b : Int} (ha : inR a) (hb : inR b) (kt : a ≠ b → MW mX3_reads_2 d 15 L S M Q) (kf : a = b → MW mX3_reads_2 d 11 L S M Q) : MW mX3_reads_2 d 8 L (vi b :: vi a :: S) M Q := mw_icmp_ne ⟨dX3_reads_2_8, rfl⟩ rfl ha hb kt kf
theorem dX3_reads_2_11 : decode cX3_reads_2 11 = .ok (.iconst 0, 1) := dk_3 (dk_at dksX3_reads_2_0 11 rfl rfl)
theorem iX3_reads_2_11 {d : Nat} {L S : List MV} {M : MH} {Q : Out → MH → Prop}  (k : MW mX3_reads_2 d 12 (L) (vi 0 :: S) M Q) : MW mX3_reads_2 d 11 (L) S M Q := mw_iconst ⟨dX3_reads_2_11, rfl⟩ k
theorem dX3_reads_2_12 : decode cX3_reads_2 12 = .ok (.goto 24, 3) := dk_167 0 24 (dk_at dksX3_reads_2_0 12 rfl rfl)
theorem iX3_reads_2_12 {d : Nat} {L S : List MV} {M : MH} {Q : Out → MH → Prop}  (k : MW mX3_reads_2 d 36 (L) S M Q) : MW mX3_reads_2 d 12 (L) S M Q := mw_goto ⟨dX3_reads_2_12, rfl⟩ rfl k
theorem dX3_reads_2_15 : decode cX3_reads_2 15 = .ok (.iload_n 1, 1) := dk_27 (dk_at dksX3_reads_2_0 15 rfl rfl)
theorem iX3_reads_2_15 {d : Nat} {r S : List MV} {M : MH} {Q : Out → MH → Prop} {w0 : MV} {z : Int} (k : MW mX3_reads_2 d 16 (w0 :: vi z :: r) (vi z :: S) M Q) : MW mX3_reads_2 d 15 (w0 :: vi z :: r) S M Q := mw_iload_n ⟨dX3_reads_2_15, rfl⟩ rfl k
theorem dX3_reads_2_16 : decode cX3_reads_2 16 = .ok (.bipush 103, 2) := dk_16 103 (dk_at dksX3_reads_2_0 16 rfl rfl)
theorem iX3_reads_2_16 {d : Nat} {L S : List MV} {M : MH} {Q : Out → MH → Prop}  (k : MW mX3_reads_2 d 18 (L) (vi 103 :: S) M Q) : MW mX3_reads_2 d 16 (L) S M Q := mw_bipush ⟨dX3_reads_2_16, rfl⟩ (by decide) k
theorem dX3_reads_2_18 : decode cX3_reads_2 18 = .ok (.if_icmp .ne 7, 3) := dk_160 0 7 (dk_at dksX3_reads_2_0 18 rfl rfl)
theorem iX3_reads_2_18 {d : Nat} {L S : List MV} {M : MH} {Q : Out → MH → Prop} {a b : Int} (ha : inR a) (hb : inR b) (kt : a ≠ b → MW mX3_reads_2 d 25 L S M Q) (kf : a = b → MW mX3_reads_2 d 21 L S M Q) : MW mX3_reads_2 d 18 L (vi b :: vi a :: S) M Q := mw_icmp_ne ⟨dX3_reads_2_18, rfl⟩ rfl ha hb kt kf
theorem dX3_reads_2_21 : decode cX3_reads_2 21 = .ok (.iconst 1, 1) := dk_4 (dk_at dksX3_reads_2_0 21 rfl rfl)
theorem iX3_reads_2_21 {d : Nat} {L S : List MV} {M : MH} {Q : Out → MH → Prop}  (k : MW mX3_reads_2 d 22 (L) (vi 1 :: S) M Q) : MW mX3_reads_2 d 21 (L) S M Q := mw_iconst ⟨dX3_reads_2_21, rfl⟩ k
theorem dX3_reads_2_22 : decode cX3_reads_2 22 = .ok (.goto 14, 3) := dk_167 0 14 (dk_at dksX3_reads_2_1 0 rfl rfl)
theorem iX3_reads_2_22 {d : Nat} {L S : List MV} {M : MH} {Q : Out → MH → Prop}  (k : MW mX3_reads_2 d 36 (L) S M Q) : MW mX3_reads_2 d 22 (L) S M Q := mw_goto ⟨dX3_reads_2_22, rfl⟩ rfl k
theorem dX3_reads_2_25 : decode cX3_reads_2 25 = .ok (.iload_n 1, 1) := dk_27 (dk_at dksX3_reads_2_1 3 rfl rfl)
theorem iX3_reads_2_25 {d : Nat} {r S : List MV} {M : MH} {Q : Out → MH → Prop} {w0 : MV} {z : Int} (k : MW mX3_reads_2 d 26 (w0 :: vi z :: r) (vi z :: S) M Q) : MW mX3_reads_2 d 25 (w0 :: vi z :: r) S M Q := mw_iload_n ⟨dX3_reads_2_25, rfl⟩ rfl k
theorem dX3_reads_2_26 : decode cX3_reads_2 26 = .ok (.bipush 108, 2) := dk_16 108 (dk_at dksX3_reads_2_1 4 rfl rfl)
theorem iX3_reads_2_26 {d : Nat} {L S : List MV} {M : MH} {Q : Out → MH → Prop}  (k : MW mX3_reads_2 d 28 (L) (vi 108 :: S) M Q) : MW mX3_reads_2 d 26 (L) S M Q := mw_bipush ⟨dX3_reads_2_26, rfl⟩ (by decide) k
theorem dX3_reads_2_28 : decode cX3_reads_2 28 = .ok (.if_icmp .ne 7, 3) := dk_160 0 7 (dk_at dksX3_reads_2_1 6 rfl rfl)
theorem iX3_reads_2_28 {d : Nat} {L S : List MV} {M : MH} {Q : Out → MH → Prop} {a b : Int} (ha : inR a) (hb : inR b) (kt : a ≠ b → MW mX3_reads_2 d 35 L S M Q) (kf : a = b → MW mX3_reads_2 d 31 L S M Q) : MW mX3_reads_2 d 28 L (vi b :: vi a :: S) M Q := mw_icmp_ne ⟨dX3_reads_2_28, rfl⟩ rfl ha hb kt kf
theorem dX3_reads_2_31 : decode cX3_reads_2 31 = .ok (.iconst 2, 1) := dk_5 (dk_at dksX3_reads_2_1 9 rfl rfl)
theorem iX3_reads_2_31 {d : Nat} {L S : List MV} {M : MH} {Q : Out → MH → Prop}  (k : MW mX3_reads_2 d 32 (L) (vi 2 :: S) M Q) : MW mX3_reads_2 d 31 (L) S M Q := mw_iconst ⟨dX3_reads_2_31, rfl⟩ k
theorem dX3_reads_2_32 : decode cX3_reads_2 32 = .ok (.goto 4, 3) := dk_167 0 4 (dk_at dksX3_reads_2_1 10 rfl rfl)
theorem iX3_reads_2_32 {d : Nat} {L S : List MV} {M : MH} {Q : Out → MH → Prop}  (k : MW mX3_reads_2 d 36 (L) S M Q) : MW mX3_reads_2 d 32 (L) S M Q := mw_goto ⟨dX3_reads_2_32, rfl⟩ rfl k
theorem dX3_reads_2_35 : decode cX3_reads_2 35 = .ok (.iconst (-1), 1) := dk_2 (dk_at dksX3_reads_2_1 13 rfl rfl)
theorem iX3_reads_2_35 {d : Nat} {L S : List MV} {M : MH} {Q : Out → MH → Prop}  (k : MW mX3_reads_2 d 36 (L) (vi (-1) :: S) M Q) : MW mX3_reads_2 d 35 (L) S M Q := mw_iconst ⟨dX3_reads_2_35, rfl⟩ k
theorem dX3_reads_2_36 : decode cX3_reads_2 36 = .ok (.istore_n 2, 1) := dk_61 (dk_at dksX3_reads_2_1 14 rfl rfl)
theorem iX3_reads_2_36 {d : Nat} {r S : List MV} {M : MH} {Q : Out → MH → Prop} {w0 w1 : MV} {z : Int} {v : MV} (k : MW mX3_reads_2 d 37 (w0 :: w1 :: vi z :: r) S M Q) (hok : okSt (w0 :: w1 :: v :: r) 2 = true := by rfl) : MW mX3_reads_2 d 36 (w0 :: w1 :: v :: r) (vi z :: S) M Q := mw_istore_n (i := 2) ⟨dX3_reads_2_36, rfl⟩ rfl (Nat.le_of_ble_eq_true rfl) hok k
theorem dX3_reads_2_37 : decode cX3_reads_2 37 = .ok (.iload_n 2, 1) := dk_28 (dk_at dksX3_reads_2_1 15 rfl rfl)
theorem iX3_reads_2_37 {d : Nat} {r S : List MV} {M : MH} {Q : Out → MH → Prop} {w0 w1 : MV} {z : Int} (k : MW mX3_reads_2 d 38 (w0 :: w1 :: vi z :: r) (vi z :: S) M Q) : MW mX3_reads_2 d 37 (w0 :: w1 :: vi z :: r) S M Q := mw_iload_n ⟨dX3_reads_2_37, rfl⟩ rfl k
theorem dX3_reads_2_38 : decode cX3_reads_2 38 = .ok (.iconst (-1), 1) := dk_2 (dk_at dksX3_reads_2_1 16 rfl rfl)
theorem iX3_reads_2_38 {d : Nat} {L S : List MV} {M : MH} {Q : Out → MH → Prop}  (k : MW mX3_reads_2 d 39 (L) (vi (-1) :: S) M Q) : MW mX3_reads_2 d 38 (L) S M Q := mw_iconst ⟨dX3_reads_2_38, rfl⟩ k
theorem dX3_reads_2_39 : decode cX3_reads_2 39 = .ok (.if_icmp .ne 8, 3) := dk_160 0 8 (dk_at dksX3_reads_2_1 17 rfl rfl)
theorem iX3_reads_2_39 {d : Nat} {L S : List MV} {M : MH} {Q : Out → MH → Prop} {a b : Int} (ha : inR a) (hb : inR b) (kt : a ≠ b → MW mX3_reads_2 d 47 L S M Q) (kf : a = b → MW mX3_reads_2 d 42 L S M Q) : MW mX3_reads_2 d 39 L (vi b :: vi a :: S) M Q := mw_icmp_ne ⟨dX3_reads_2_39, rfl⟩ rfl ha hb kt kf
theorem dX3_reads_2_42 : decode cX3_reads_2 42 = .ok (.aload_n 0, 1) := dk_42 (dk_at dksX3_reads_2_1 20 rfl rfl)
theorem iX3_reads_2_42 {d : Nat} {r S : List MV} {M : MH} {Q : Out → MH → Prop} {o : Option Nat} (k : MW mX3_reads_2 d 43 (vr o :: r) (vr o :: S) M Q) : MW mX3_reads_2 d 42 (vr o :: r) S M Q := mw_aload_n ⟨dX3_reads_2_42, rfl⟩ rfl k
theorem dX3_reads_2_43 : decode cX3_reads_2 43 = .ok (.invokevirtual 15, 3) := dk_182 0 15 (dk_at dksX3_reads_2_1 21 rfl rfl)
theorem iX3_reads_2_43 {d : Nat} {L S : List MV} {M : MH} {Q : Out → MH → Prop} {b : Nat} {P : Option Nat → MH → Prop} (hs : (msh M b).1 = 2) (hM : MCr mX1_torn d [vp b] M P) (k : ∀ o M', P o M' → MW mX3_reads_2 (d + 1) 46 L (vr o :: S) M' Q) (h8 : Nat.ble (S.map mcat).sum 8 = true := by rfl) : MW mX3_reads_2 (d + 1) 43 L (vp b :: S) M Q := mw_callr (as := [vp b]) (site_U (Y' := mX1_torn) (n := 0) (x := ⟨"SoldWithIt$Folk", "torn", "()LSoldWithIt$Torn;"⟩) ⟨dX3_reads_2_43, rfl⟩ q499 q500 (Or.inl (lw_b q501 rfl)) ⟨by decide +kernel, by decide +kernel⟩ q411 q502 wX1_torn rfl nX1_torn (cls_of (ci := 2) rfl hs) rfl) kX1_torn (Nat.le_of_ble_eq_true h8) hM k
theorem dX3_reads_2_46 : decode cX3_reads_2 46 = .ok (.athrow, 1) := dk_191 (dk_at dksX3_reads_2_2 0 rfl rfl)
theorem dX3_reads_2_47 : decode cX3_reads_2 47 = .ok (.aload_n 0, 1) := dk_42 (dk_at dksX3_reads_2_2 1 rfl rfl)
theorem iX3_reads_2_47 {d : Nat} {r S : List MV} {M : MH} {Q : Out → MH → Prop} {o : Option Nat} (k : MW mX3_reads_2 d 48 (vr o :: r) (vr o :: S) M Q) : MW mX3_reads_2 d 47 (vr o :: r) S M Q := mw_aload_n ⟨dX3_reads_2_47, rfl⟩ rfl k
theorem dX3_reads_2_48 : decode cX3_reads_2 48 = .ok (.invokevirtual 19, 3) := dk_182 0 19 (dk_at dksX3_reads_2_2 2 rfl rfl)
theorem iX3_reads_2_48 {d : Nat} {L S : List MV} {M : MH} {Q : Out → MH → Prop} {b : Nat} {P : MH → Prop} (hs : (msh M b).1 = 2) (hM : MCv mX1_goesOn d [vp b] M P) (k : ∀ M', P M' → MW mX3_reads_2 (d + 1) 51 L S M' Q) (h8 : Nat.ble (S.map mcat).sum 8 = true := by rfl) : MW mX3_reads_2 (d + 1) 48 L (vp b :: S) M Q := mw_callv (as := [vp b]) (site_U (Y' := mX1_goesOn) (n := 0) (x := ⟨"SoldWithIt$Folk", "goesOn", "()V"⟩) ⟨dX3_reads_2_48, rfl⟩ q503 q504 (Or.inl (lw_b q505 rfl)) ⟨by decide +kernel, by decide +kernel⟩ q507 q506 wX1_goesOn rfl nX1_goesOn (cls_of (ci := 2) rfl hs) rfl) kX1_goesOn (Nat.le_of_ble_eq_true h8) hM k
theorem dX3_reads_2_51 : decode cX3_reads_2 51 = .ok (.aload_n 0, 1) := dk_42 (dk_at dksX3_reads_2_2 5 rfl rfl)
theorem iX3_reads_2_51 {d : Nat} {r S : List MV} {M : MH} {Q : Out → MH → Prop} {o : Option Nat} (k : MW mX3_reads_2 d 52 (vr o :: r) (vr o :: S) M Q) : MW mX3_reads_2 d 51 (vr o :: r) S M Q := mw_aload_n ⟨dX3_reads_2_51, rfl⟩ rfl k
theorem dX3_reads_2_52 : decode cX3_reads_2 52 = .ok (.invokevirtual 9, 3) := dk_182 0 9 (dk_at dksX3_reads_2_2 6 rfl rfl)
theorem iX3_reads_2_52 {d : Nat} {L S : List MV} {M : MH} {Q : Out → MH → Prop} {b : Nat} {P : Int → MH → Prop} (hs : (msh M b).1 = 2) (hM : MCi mX1_here d [vp b] M P) (k : ∀ z M', P z M' → MW mX3_reads_2 (d + 1) 55 L (vi z :: S) M' Q) (h8 : Nat.ble (S.map mcat).sum 8 = true := by rfl) : MW mX3_reads_2 (d + 1) 52 L (vp b :: S) M Q := mw_calli (as := [vp b]) (site_U (Y' := mX1_here) (n := 0) (x := ⟨"SoldWithIt$Folk", "here", "()I"⟩) ⟨dX3_reads_2_52, rfl⟩ q495 q496 (Or.inl (lw_b q497 rfl)) ⟨by decide +kernel, by decide +kernel⟩ q405 q498 wX1_here rfl nX1_here (cls_of (ci := 2) rfl hs) rfl) kX1_here (Nat.le_of_ble_eq_true h8) hM k
theorem dX3_reads_2_55 : decode cX3_reads_2 55 = .ok (.bipush 45, 2) := dk_16 45 (dk_at dksX3_reads_2_2 9 rfl rfl)
theorem iX3_reads_2_55 {d : Nat} {L S : List MV} {M : MH} {Q : Out → MH → Prop}  (k : MW mX3_reads_2 d 57 (L) (vi 45 :: S) M Q) : MW mX3_reads_2 d 55 (L) S M Q := mw_bipush ⟨dX3_reads_2_55, rfl⟩ (by decide) k
theorem dX3_reads_2_57 : decode cX3_reads_2 57 = .ok (.if_icmp .eq 18, 3) := dk_159 0 18 (dk_at dksX3_reads_2_2 11 rfl rfl)
theorem iX3_reads_2_57 {d : Nat} {L S : List MV} {M : MH} {Q : Out → MH → Prop} {a b : Int} (ha : inR a) (hb : inR b) (kt : a = b → MW mX3_reads_2 d 75 L S M Q) (kf : ¬ a = b → MW mX3_reads_2 d 60 L S M Q) : MW mX3_reads_2 d 57 L (vi b :: vi a :: S) M Q := mw_icmp_eq ⟨dX3_reads_2_57, rfl⟩ rfl ha hb kt kf
theorem dX3_reads_2_60 : decode cX3_reads_2 60 = .ok (.new 23, 3) := dk_187 0 23 (dk_at dksX3_reads_2_2 14 rfl rfl)
theorem iX3_reads_2_60 {d : Nat} {L S : List MV} {M : MH} {Q : Out → MH → Prop} (hcap : mhn M + 1 ≤ mNC) (hcas : mhs M + 2 ≤ mNS) (k : MW mX3_reads_2 d 63 L (vp (mhn M) :: S) (wN M 5 2) Q) : MW mX3_reads_2 d 60 L S M Q := mw_new (ci := 5) ⟨dX3_reads_2_60, rfl⟩ rfl q509 q510 q104 hcap hcas k
theorem dX3_reads_2_63 : decode cX3_reads_2 63 = .ok (.dup, 1) := dk_89 (dk_at dksX3_reads_2_2 17 rfl rfl)
theorem iX3_reads_2_63 {d : Nat} {L S : List MV} {M : MH} {Q : Out → MH → Prop} {v : MV} (k : MW mX3_reads_2 d 64 L (v :: v :: S) M Q) (hv : mcat v = 1 := by rfl) : MW mX3_reads_2 d 63 L (v :: S) M Q := mw_dup ⟨dX3_reads_2_63, rfl⟩ hv k
theorem dX3_reads_2_64 : decode cX3_reads_2 64 = .ok (.iload_n 2, 1) := dk_28 (dk_at dksX3_reads_2_2 18 rfl rfl)
theorem iX3_reads_2_64 {d : Nat} {r S : List MV} {M : MH} {Q : Out → MH → Prop} {w0 w1 : MV} {z : Int} (k : MW mX3_reads_2 d 65 (w0 :: w1 :: vi z :: r) (vi z :: S) M Q) : MW mX3_reads_2 d 64 (w0 :: w1 :: vi z :: r) S M Q := mw_iload_n ⟨dX3_reads_2_64, rfl⟩ rfl k
theorem dX3_reads_2_65 : decode cX3_reads_2 65 = .ok (.aload_n 0, 1) := dk_42 (dk_at dksX3_reads_2_2 19 rfl rfl)
theorem iX3_reads_2_65 {d : Nat} {r S : List MV} {M : MH} {Q : Out → MH → Prop} {o : Option Nat} (k : MW mX3_reads_2 d 66 (vr o :: r) (vr o :: S) M Q) : MW mX3_reads_2 d 65 (vr o :: r) S M Q := mw_aload_n ⟨dX3_reads_2_65, rfl⟩ rfl k
theorem dX3_reads_2_66 : decode cX3_reads_2 66 = .ok (.bipush 7, 2) := dk_16 7 (dk_at dksX3_reads_2_2 20 rfl rfl)
theorem iX3_reads_2_66 {d : Nat} {L S : List MV} {M : MH} {Q : Out → MH → Prop}  (k : MW mX3_reads_2 d 68 (L) (vi 7 :: S) M Q) : MW mX3_reads_2 d 66 (L) S M Q := mw_bipush ⟨dX3_reads_2_66, rfl⟩ (by decide) k
theorem dX3_reads_2_68 : decode cX3_reads_2 68 = .ok (.invokevirtual 25, 3) := dk_182 0 25 (dk_at dksX3_reads_2_3 0 rfl rfl)
theorem iX3_reads_2_68 {d : Nat} {L S : List MV} {M : MH} {Q : Out → MH → Prop} {v1 : MV} {b : Nat} {P : Int → MH → Prop} (hs : (msh M b).1 = 2) (hM : MCi mX1_figure d [vp b, v1] M P) (k : ∀ z M', P z M' → MW mX3_reads_2 (d + 1) 71 L (vi z :: S) M' Q) (h8 : Nat.ble (S.map mcat).sum 8 = true := by rfl) : MW mX3_reads_2 (d + 1) 68 L (v1 :: vp b :: S) M Q := mw_calli (as := [vp b, v1]) (site_U (Y' := mX1_figure) (n := 1) (x := ⟨"SoldWithIt$Folk", "figure", "(I)I"⟩) ⟨dX3_reads_2_68, rfl⟩ q511 q512 (Or.inl (lw_b q513 rfl)) ⟨by decide +kernel, by decide +kernel⟩ q515 q514 wX1_figure rfl nX1_figure (cls_of (ci := 2) rfl hs) rfl) kX1_figure (Nat.le_of_ble_eq_true h8) hM k
theorem iX3_reads_2_68T {d : Nat} {L S : List MV} {M : MH} {Q : Out → MH → Prop} {v1 : MV} {b : Nat} {Qs : Out → MH → Prop} (hs : (msh M b).1 = 2) (hM : MC mX1_figure d [vp b, v1] M Qs) (kr : ∀ v M', Qs (.inl v) M' → MW mX3_reads_2 (d + 1) 71 L (v.toList ++ S) M' Q) (kt : ∀ a M', Qs (.inr a) M' → MX mX3_reads_2 (d + 1) 68 L M' a Q) (h8 : Nat.ble (S.map mcat).sum 8 = true := by rfl) : MW mX3_reads_2 (d + 1) 68 L (v1 :: vp b :: S) M Q := mw_call (as := [vp b, v1]) (site_U (Y' := mX1_figure) (n := 1) (x := ⟨"SoldWithIt$Folk", "figure", "(I)I"⟩) ⟨dX3_reads_2_68, rfl⟩ q511 q512 (Or.inl (lw_b q513 rfl)) ⟨by decide +kernel, by decide +kernel⟩ q515 q514 wX1_figure rfl nX1_figure (cls_of (ci := 2) rfl hs) rfl) kX1_figure.1 kX1_figure.2.1 kX1_figure.2.2.1 (Nat.le_of_ble_eq_true h8) hM kX1_figure.2.2.2 kr kt
theorem dX3_reads_2_71 : decode cX3_reads_2 71 = .ok (.invokespecial 29, 3) := dk_183 0 29 (dk_at dksX3_reads_2_3 3 rfl rfl)
theorem iX3_reads_2_71 {d : Nat} {L S : List MV} {M : MH} {Q : Out → MH → Prop} {v1 v2 : MV} {b : Nat} {P : MH → Prop} (hM : MCv mX9_init d [vp b, v1, v2] M P) (k : ∀ M', P M' → MW mX3_reads_2 (d + 1) 74 L S M' Q) (h8 : Nat.ble (S.map mcat).sum 8 = true := by rfl) : MW mX3_reads_2 (d + 1) 71 L (v2 :: v1 :: vp b :: S) M Q := mw_callv (as := [vp b, v1, v2]) (site_I (Y' := mX9_init) (n := 2) ⟨dX3_reads_2_71, rfl⟩ (Or.inl q518) q519 q520 rfl nX9_init hX9_init rfl) kX9_init (Nat.le_of_ble_eq_true h8) hM k
theorem dX3_reads_2_74 : decode cX3_reads_2 74 = .ok (.areturn, 1) := dk_176 (dk_at dksX3_reads_2_3 6 rfl rfl)
theorem iX3_reads_2_74 {d : Nat} {L : List MV} {M : MH} {P : Option Nat → MH → Prop} {o : Option Nat} (hq : P o M) : MW mX3_reads_2 d 74 L [vr o] M (Rr P) := mw_retr ⟨dX3_reads_2_74, rfl⟩ rfl (Or.inl ⟨_, rfl⟩) hq
theorem dX3_reads_2_75 : decode cX3_reads_2 75 = .ok (.aload_n 0, 1) := dk_42 (dk_at dksX3_reads_2_3 7 rfl rfl)
theorem iX3_reads_2_75 {d : Nat} {r S : List MV} {M : MH} {Q : Out → MH → Prop} {o : Option Nat} (k : MW mX3_reads_2 d 76 (vr o :: r) (vr o :: S) M Q) : MW mX3_reads_2 d 75 (vr o :: r) S M Q := mw_aload_n ⟨dX3_reads_2_75, rfl⟩ rfl k
theorem dX3_reads_2_76 : decode cX3_reads_2 76 = .ok (.invokevirtual 19, 3) := dk_182 0 19 (dk_at dksX3_reads_2_3 8 rfl rfl)
theorem iX3_reads_2_76 {d : Nat} {L S : List MV} {M : MH} {Q : Out → MH → Prop} {b : Nat} {P : MH → Prop} (hs : (msh M b).1 = 2) (hM : MCv mX1_goesOn d [vp b] M P) (k : ∀ M', P M' → MW mX3_reads_2 (d + 1) 79 L S M' Q) (h8 : Nat.ble (S.map mcat).sum 8 = true := by rfl) : MW mX3_reads_2 (d + 1) 76 L (vp b :: S) M Q := mw_callv (as := [vp b]) (site_U (Y' := mX1_goesOn) (n := 0) (x := ⟨"SoldWithIt$Folk", "goesOn", "()V"⟩) ⟨dX3_reads_2_76, rfl⟩ q503 q504 (Or.inl (lw_b q505 rfl)) ⟨by decide +kernel, by decide +kernel⟩ q507 q506 wX1_goesOn rfl nX1_goesOn (cls_of (ci := 2) rfl hs) rfl) kX1_goesOn (Nat.le_of_ble_eq_true h8) hM k
theorem dX3_reads_2_79 : decode cX3_reads_2 79 = .ok (.new 23, 3) := dk_187 0 23 (dk_at dksX3_reads_2_3 11 rfl rfl)
theorem iX3_reads_2_79 {d : Nat} {L S : List MV} {M : MH} {Q : Out → MH → Prop} (hcap : mhn M + 1 ≤ mNC) (hcas : mhs M + 2 ≤ mNS) (k : MW mX3_reads_2 d 82 L (vp (mhn M) :: S) (wN M 5 2) Q) : MW mX3_reads_2 d 79 L S M Q := mw_new (ci := 5) ⟨dX3_reads_2_79, rfl⟩ rfl q509 q510 q104 hcap hcas k
theorem dX3_reads_2_82 : decode cX3_reads_2 82 = .ok (.dup, 1) := dk_89 (dk_at dksX3_reads_2_3 14 rfl rfl)
theorem iX3_reads_2_82 {d : Nat} {L S : List MV} {M : MH} {Q : Out → MH → Prop} {v : MV} (k : MW mX3_reads_2 d 83 L (v :: v :: S) M Q) (hv : mcat v = 1 := by rfl) : MW mX3_reads_2 d 82 L (v :: S) M Q := mw_dup ⟨dX3_reads_2_82, rfl⟩ hv k
theorem dX3_reads_2_83 : decode cX3_reads_2 83 = .ok (.iload_n 2, 1) := dk_28 (dk_at dksX3_reads_2_3 15 rfl rfl)
theorem iX3_reads_2_83 {d : Nat} {r S : List MV} {M : MH} {Q : Out → MH → Prop} {w0 w1 : MV} {z : Int} (k : MW mX3_reads_2 d 84 (w0 :: w1 :: vi z :: r) (vi z :: S) M Q) : MW mX3_reads_2 d 83 (w0 :: w1 :: vi z :: r) S M Q := mw_iload_n ⟨dX3_reads_2_83, rfl⟩ rfl k
theorem dX3_reads_2_84 : decode cX3_reads_2 84 = .ok (.bipush 8, 2) := dk_16 8 (dk_at dksX3_reads_2_3 16 rfl rfl)
theorem iX3_reads_2_84 {d : Nat} {L S : List MV} {M : MH} {Q : Out → MH → Prop}  (k : MW mX3_reads_2 d 86 (L) (vi 8 :: S) M Q) : MW mX3_reads_2 d 84 (L) S M Q := mw_bipush ⟨dX3_reads_2_84, rfl⟩ (by decide) k
theorem dX3_reads_2_86 : decode cX3_reads_2 86 = .ok (.invokespecial 29, 3) := dk_183 0 29 (dk_at dksX3_reads_2_3 18 rfl rfl)
theorem iX3_reads_2_86 {d : Nat} {L S : List MV} {M : MH} {Q : Out → MH → Prop} {v1 v2 : MV} {b : Nat} {P : MH → Prop} (hM : MCv mX9_init d [vp b, v1, v2] M P) (k : ∀ M', P M' → MW mX3_reads_2 (d + 1) 89 L S M' Q) (h8 : Nat.ble (S.map mcat).sum 8 = true := by rfl) : MW mX3_reads_2 (d + 1) 86 L (v2 :: v1 :: vp b :: S) M Q := mw_callv (as := [vp b, v1, v2]) (site_I (Y' := mX9_init) (n := 2) ⟨dX3_reads_2_86, rfl⟩ (Or.inl q518) q519 q520 rfl nX9_init hX9_init rfl) kX9_init (Nat.le_of_ble_eq_true h8) hM k
theorem dX3_reads_2_89 : decode cX3_reads_2 89 = .ok (.areturn, 1) := dk_176 (dk_at dksX3_reads_2_3 21 rfl rfl)
theorem iX3_reads_2_89 {d : Nat} {L : List MV} {M : MH} {P : Option Nat → MH → Prop} {o : Option Nat} (hq : P o M) : MW mX3_reads_2 d 89 L [vr o] M (Rr P) := mw_retr ⟨dX3_reads_2_89, rfl⟩ rfl (Or.inl ⟨_, rfl⟩) hq
/-! X4_init -/
def dkwX4_init_1 : List UInt8 := [181, 0, 19, 42, 16, 8, 188, 10, 181, 0, 22, 42, 16, 8, 188, 10, 181, 0, 25, 177]
abbrev dktX4_init_1 : List UInt8 := dkwX4_init_1 ++ []
def dkwX4_init_0 : List UInt8 := [42, 43, 181, 0, 3, 42, 183, 0, 9, 42, 16, 8, 188, 10, 181, 0, 15, 42, 16, 8, 188, 10]
abbrev dktX4_init_0 : List UInt8 := dkwX4_init_0 ++ dktX4_init_1
theorem dksX4_init_0 : cX4_init.data.toList.drop 0 = dktX4_init_0 := by decide +kernel
theorem dksX4_init_1 : cX4_init.data.toList.drop 22 = dktX4_init_1 := dk_seg dksX4_init_0 22 rfl rfl
theorem dX4_init_0 : decode cX4_init 0 = .ok (.aload_n 0, 1) := dk_42 (dk_at dksX4_init_0 0 rfl rfl)
theorem iX4_init_0 {d : Nat} {r S : List MV} {M : MH} {Q : Out → MH → Prop} {o : Option Nat} (k : MW mX4_init d 1 (vr o :: r) (vr o :: S) M Q) : MW mX4_init d 0 (vr o :: r) S M Q := mw_aload_n ⟨dX4_init_0, rfl⟩ rfl k
theorem dX4_init_1 : decode cX4_init 1 = .ok (.aload_n 1, 1) := dk_43 (dk_at dksX4_init_0 1 rfl rfl)
theorem iX4_init_1 {d : Nat} {r S : List MV} {M : MH} {Q : Out → MH → Prop} {w0 : MV} {o : Option Nat} (k : MW mX4_init d 2 (w0 :: vr o :: r) (vr o :: S) M Q) : MW mX4_init d 1 (w0 :: vr o :: r) S M Q := mw_aload_n ⟨dX4_init_1, rfl⟩ rfl k
theorem dX4_init_2 : decode cX4_init 2 = .ok (.putfield 3, 3) := dk_181 0 3 (dk_at dksX4_init_0 2 rfl rfl)
theorem iX4_init_2 {d : Nat} {L S : List MV} {M : MH} {Q : Out → MH → Prop} {a : Nat} {o : Option Nat} (hs : (msh M a).1 = 6) (k : MW mX4_init d 5 L S (wR M a 5 o) Q) : MW mX4_init d 2 L (vr o :: vp a :: S) M Q := mw_putR (ci := 6) (k := 5) ⟨dX4_init_2, rfl⟩ ⟨_, rfl, Nat.le_of_ble_eq_true rfl, Or.inr ⟨rfl, rfl, rfl, q211⟩⟩ (Or.inl ⟨_, rfl⟩) hs k
theorem dX4_init_5 : decode cX4_init 5 = .ok (.aload_n 0, 1) := dk_42 (dk_at dksX4_init_0 5 rfl rfl)
theorem iX4_init_5 {d : Nat} {r S : List MV} {M : MH} {Q : Out → MH → Prop} {o : Option Nat} (k : MW mX4_init d 6 (vr o :: r) (vr o :: S) M Q) : MW mX4_init d 5 (vr o :: r) S M Q := mw_aload_n ⟨dX4_init_5, rfl⟩ rfl k
theorem dX4_init_6 : decode cX4_init 6 = .ok (.invokespecial 9, 3) := dk_183 0 9 (dk_at dksX4_init_0 6 rfl rfl)
theorem iX4_init_6 {d : Nat} {L S : List MV} {M : MH} {Q : Out → MH → Prop} {a : Nat} (k : MW mX4_init (d + 1) 9 L S M Q) (h8 : Nat.ble (S.map mcat).sum 8 = true := by rfl) : MW mX4_init (d + 1) 6 L (vp a :: S) M Q := mw_objInit ⟨dX4_init_6, rfl⟩ q200 q125 q126 (Nat.le_of_ble_eq_true h8) k
theorem dX4_init_9 : decode cX4_init 9 = .ok (.aload_n 0, 1) := dk_42 (dk_at dksX4_init_0 9 rfl rfl)
theorem iX4_init_9 {d : Nat} {r S : List MV} {M : MH} {Q : Out → MH → Prop} {o : Option Nat} (k : MW mX4_init d 10 (vr o :: r) (vr o :: S) M Q) : MW mX4_init d 9 (vr o :: r) S M Q := mw_aload_n ⟨dX4_init_9, rfl⟩ rfl k
theorem dX4_init_10 : decode cX4_init 10 = .ok (.bipush 8, 2) := dk_16 8 (dk_at dksX4_init_0 10 rfl rfl)
theorem iX4_init_10 {d : Nat} {L S : List MV} {M : MH} {Q : Out → MH → Prop}  (k : MW mX4_init d 12 (L) (vi 8 :: S) M Q) : MW mX4_init d 10 (L) S M Q := mw_bipush ⟨dX4_init_10, rfl⟩ (by decide) k
theorem dX4_init_12 : decode cX4_init 12 = .ok (.newarray .int, 2) := dk_188_10 (dk_at dksX4_init_0 12 rfl rfl)
theorem iX4_init_12 {d : Nat} {L S : List MV} {M : MH} {Q : Out → MH → Prop} {n : Nat} {z : Int} (hi : z = (n : Int)) (hn : n ≤ 100000) (hcap : mhn M + 1 ≤ mNC) (hcas : mhs M + n ≤ mNS) (k : MW mX4_init d 14 L (vp (mhn M) :: S) (wN M 100 n) Q) : MW mX4_init d 12 L (vi z :: S) M Q := mw_newarr (ak := 0) ⟨dX4_init_12, rfl⟩ rfl (by decide) q181 hi hn hcap hcas k
theorem dX4_init_14 : decode cX4_init 14 = .ok (.putfield 15, 3) := dk_181 0 15 (dk_at dksX4_init_0 14 rfl rfl)
theorem iX4_init_14 {d : Nat} {L S : List MV} {M : MH} {Q : Out → MH → Prop} {a : Nat} {o : Option Nat} (hs : (msh M a).1 = 6) (k : MW mX4_init d 17 L S (wR M a 0 o) Q) : MW mX4_init d 14 L (vr o :: vp a :: S) M Q := mw_putR (ci := 6) (k := 0) ⟨dX4_init_14, rfl⟩ ⟨_, rfl, Nat.le_of_ble_eq_true rfl, Or.inr ⟨rfl, rfl, rfl, q201⟩⟩ (Or.inr ⟨_, rfl⟩) hs k
theorem dX4_init_17 : decode cX4_init 17 = .ok (.aload_n 0, 1) := dk_42 (dk_at dksX4_init_0 17 rfl rfl)
theorem iX4_init_17 {d : Nat} {r S : List MV} {M : MH} {Q : Out → MH → Prop} {o : Option Nat} (k : MW mX4_init d 18 (vr o :: r) (vr o :: S) M Q) : MW mX4_init d 17 (vr o :: r) S M Q := mw_aload_n ⟨dX4_init_17, rfl⟩ rfl k
theorem dX4_init_18 : decode cX4_init 18 = .ok (.bipush 8, 2) := dk_16 8 (dk_at dksX4_init_0 18 rfl rfl)
theorem iX4_init_18 {d : Nat} {L S : List MV} {M : MH} {Q : Out → MH → Prop}  (k : MW mX4_init d 20 (L) (vi 8 :: S) M Q) : MW mX4_init d 18 (L) S M Q := mw_bipush ⟨dX4_init_18, rfl⟩ (by decide) k
theorem dX4_init_20 : decode cX4_init 20 = .ok (.newarray .int, 2) := dk_188_10 (dk_at dksX4_init_0 20 rfl rfl)
theorem iX4_init_20 {d : Nat} {L S : List MV} {M : MH} {Q : Out → MH → Prop} {n : Nat} {z : Int} (hi : z = (n : Int)) (hn : n ≤ 100000) (hcap : mhn M + 1 ≤ mNC) (hcas : mhs M + n ≤ mNS) (k : MW mX4_init d 22 L (vp (mhn M) :: S) (wN M 100 n) Q) : MW mX4_init d 20 L (vi z :: S) M Q := mw_newarr (ak := 0) ⟨dX4_init_20, rfl⟩ rfl (by decide) q181 hi hn hcap hcas k
theorem dX4_init_22 : decode cX4_init 22 = .ok (.putfield 19, 3) := dk_181 0 19 (dk_at dksX4_init_1 0 rfl rfl)
theorem iX4_init_22 {d : Nat} {L S : List MV} {M : MH} {Q : Out → MH → Prop} {a : Nat} {o : Option Nat} (hs : (msh M a).1 = 6) (k : MW mX4_init d 25 L S (wR M a 1 o) Q) : MW mX4_init d 22 L (vr o :: vp a :: S) M Q := mw_putR (ci := 6) (k := 1) ⟨dX4_init_22, rfl⟩ ⟨_, rfl, Nat.le_of_ble_eq_true rfl, Or.inr ⟨rfl, rfl, rfl, q203⟩⟩ (Or.inr ⟨_, rfl⟩) hs k
theorem dX4_init_25 : decode cX4_init 25 = .ok (.aload_n 0, 1) := dk_42 (dk_at dksX4_init_1 3 rfl rfl)
theorem iX4_init_25 {d : Nat} {r S : List MV} {M : MH} {Q : Out → MH → Prop} {o : Option Nat} (k : MW mX4_init d 26 (vr o :: r) (vr o :: S) M Q) : MW mX4_init d 25 (vr o :: r) S M Q := mw_aload_n ⟨dX4_init_25, rfl⟩ rfl k
theorem dX4_init_26 : decode cX4_init 26 = .ok (.bipush 8, 2) := dk_16 8 (dk_at dksX4_init_1 4 rfl rfl)
theorem iX4_init_26 {d : Nat} {L S : List MV} {M : MH} {Q : Out → MH → Prop}  (k : MW mX4_init d 28 (L) (vi 8 :: S) M Q) : MW mX4_init d 26 (L) S M Q := mw_bipush ⟨dX4_init_26, rfl⟩ (by decide) k
theorem dX4_init_28 : decode cX4_init 28 = .ok (.newarray .int, 2) := dk_188_10 (dk_at dksX4_init_1 6 rfl rfl)
theorem iX4_init_28 {d : Nat} {L S : List MV} {M : MH} {Q : Out → MH → Prop} {n : Nat} {z : Int} (hi : z = (n : Int)) (hn : n ≤ 100000) (hcap : mhn M + 1 ≤ mNC) (hcas : mhs M + n ≤ mNS) (k : MW mX4_init d 30 L (vp (mhn M) :: S) (wN M 100 n) Q) : MW mX4_init d 28 L (vi z :: S) M Q := mw_newarr (ak := 0) ⟨dX4_init_28, rfl⟩ rfl (by decide) q181 hi hn hcap hcas k
theorem dX4_init_30 : decode cX4_init 30 = .ok (.putfield 22, 3) := dk_181 0 22 (dk_at dksX4_init_1 8 rfl rfl)
theorem iX4_init_30 {d : Nat} {L S : List MV} {M : MH} {Q : Out → MH → Prop} {a : Nat} {o : Option Nat} (hs : (msh M a).1 = 6) (k : MW mX4_init d 33 L S (wR M a 2 o) Q) : MW mX4_init d 30 L (vr o :: vp a :: S) M Q := mw_putR (ci := 6) (k := 2) ⟨dX4_init_30, rfl⟩ ⟨_, rfl, Nat.le_of_ble_eq_true rfl, Or.inr ⟨rfl, rfl, rfl, q206⟩⟩ (Or.inr ⟨_, rfl⟩) hs k
theorem dX4_init_33 : decode cX4_init 33 = .ok (.aload_n 0, 1) := dk_42 (dk_at dksX4_init_1 11 rfl rfl)
theorem iX4_init_33 {d : Nat} {r S : List MV} {M : MH} {Q : Out → MH → Prop} {o : Option Nat} (k : MW mX4_init d 34 (vr o :: r) (vr o :: S) M Q) : MW mX4_init d 33 (vr o :: r) S M Q := mw_aload_n ⟨dX4_init_33, rfl⟩ rfl k
theorem dX4_init_34 : decode cX4_init 34 = .ok (.bipush 8, 2) := dk_16 8 (dk_at dksX4_init_1 12 rfl rfl)
theorem iX4_init_34 {d : Nat} {L S : List MV} {M : MH} {Q : Out → MH → Prop}  (k : MW mX4_init d 36 (L) (vi 8 :: S) M Q) : MW mX4_init d 34 (L) S M Q := mw_bipush ⟨dX4_init_34, rfl⟩ (by decide) k
theorem dX4_init_36 : decode cX4_init 36 = .ok (.newarray .int, 2) := dk_188_10 (dk_at dksX4_init_1 14 rfl rfl)
theorem iX4_init_36 {d : Nat} {L S : List MV} {M : MH} {Q : Out → MH → Prop} {n : Nat} {z : Int} (hi : z = (n : Int)) (hn : n ≤ 100000) (hcap : mhn M + 1 ≤ mNC) (hcas : mhs M + n ≤ mNS) (k : MW mX4_init d 38 L (vp (mhn M) :: S) (wN M 100 n) Q) : MW mX4_init d 36 L (vi z :: S) M Q := mw_newarr (ak := 0) ⟨dX4_init_36, rfl⟩ rfl (by decide) q181 hi hn hcap hcas k
theorem dX4_init_38 : decode cX4_init 38 = .ok (.putfield 25, 3) := dk_181 0 25 (dk_at dksX4_init_1 16 rfl rfl)
theorem iX4_init_38 {d : Nat} {L S : List MV} {M : MH} {Q : Out → MH → Prop} {a : Nat} {o : Option Nat} (hs : (msh M a).1 = 6) (k : MW mX4_init d 41 L S (wR M a 3 o) Q) : MW mX4_init d 38 L (vr o :: vp a :: S) M Q := mw_putR (ci := 6) (k := 3) ⟨dX4_init_38, rfl⟩ ⟨_, rfl, Nat.le_of_ble_eq_true rfl, Or.inr ⟨rfl, rfl, rfl, q208⟩⟩ (Or.inr ⟨_, rfl⟩) hs k
theorem dX4_init_41 : decode cX4_init 41 = .ok (.return_, 1) := dk_177 (dk_at dksX4_init_1 19 rfl rfl)
theorem iX4_init_41 {d : Nat} {L : List MV} {M : MH} {P : MH → Prop} (hq : P M) : MW mX4_init d 41 L [] M (Rv P) := mw_retv ⟨dX4_init_41, rfl⟩ rfl hq
/-! X4_begins -/
def dkwX4_begins_1 : List UInt8 := [182, 0, 32, 180, 0, 36, 79, 132, 1, 1, 167, 255, 225, 42, 182, 0, 42, 87, 42, 176]
abbrev dktX4_begins_1 : List UInt8 := dkwX4_begins_1 ++ []
def dkwX4_begins_0 : List UInt8 := [3, 60, 27, 42, 180, 0, 3, 182, 0, 28, 162, 0, 26, 42, 180, 0, 19, 27, 42, 180, 0, 3, 27]
abbrev dktX4_begins_0 : List UInt8 := dkwX4_begins_0 ++ dktX4_begins_1
theorem dksX4_begins_0 : cX4_begins.data.toList.drop 0 = dktX4_begins_0 := by decide +kernel
theorem dksX4_begins_1 : cX4_begins.data.toList.drop 23 = dktX4_begins_1 := dk_seg dksX4_begins_0 23 rfl rfl
theorem dX4_begins_0 : decode cX4_begins 0 = .ok (.iconst 0, 1) := dk_3 (dk_at dksX4_begins_0 0 rfl rfl)
theorem iX4_begins_0 {d : Nat} {L S : List MV} {M : MH} {Q : Out → MH → Prop}  (k : MW mX4_begins d 1 (L) (vi 0 :: S) M Q) : MW mX4_begins d 0 (L) S M Q := mw_iconst ⟨dX4_begins_0, rfl⟩ k
theorem dX4_begins_1 : decode cX4_begins 1 = .ok (.istore_n 1, 1) := dk_60 (dk_at dksX4_begins_0 1 rfl rfl)
theorem iX4_begins_1 {d : Nat} {r S : List MV} {M : MH} {Q : Out → MH → Prop} {w0 : MV} {z : Int} {v : MV} (k : MW mX4_begins d 2 (w0 :: vi z :: r) S M Q) (hok : okSt (w0 :: v :: r) 1 = true := by rfl) : MW mX4_begins d 1 (w0 :: v :: r) (vi z :: S) M Q := mw_istore_n (i := 1) ⟨dX4_begins_1, rfl⟩ rfl (Nat.le_of_ble_eq_true rfl) hok k
theorem dX4_begins_2 : decode cX4_begins 2 = .ok (.iload_n 1, 1) := dk_27 (dk_at dksX4_begins_0 2 rfl rfl)
theorem iX4_begins_2 {d : Nat} {r S : List MV} {M : MH} {Q : Out → MH → Prop} {w0 : MV} {z : Int} (k : MW mX4_begins d 3 (w0 :: vi z :: r) (vi z :: S) M Q) : MW mX4_begins d 2 (w0 :: vi z :: r) S M Q := mw_iload_n ⟨dX4_begins_2, rfl⟩ rfl k
theorem dX4_begins_3 : decode cX4_begins 3 = .ok (.aload_n 0, 1) := dk_42 (dk_at dksX4_begins_0 3 rfl rfl)
theorem iX4_begins_3 {d : Nat} {r S : List MV} {M : MH} {Q : Out → MH → Prop} {o : Option Nat} (k : MW mX4_begins d 4 (vr o :: r) (vr o :: S) M Q) : MW mX4_begins d 3 (vr o :: r) S M Q := mw_aload_n ⟨dX4_begins_3, rfl⟩ rfl k
theorem dX4_begins_4 : decode cX4_begins 4 = .ok (.getfield 3, 3) := dk_180 0 3 (dk_at dksX4_begins_0 4 rfl rfl)
theorem iX4_begins_4 {d : Nat} {L S : List MV} {M : MH} {Q : Out → MH → Prop} {a : Nat} {o : Option Nat} (hs : (msh M a).1 = 6) (hr : mrv M a 5 = o) (k : MW mX4_begins d 7 L (vr o :: S) M Q) : MW mX4_begins d 4 L (vp a :: S) M Q := mw_getR (ci := 6) (k := 5) ⟨dX4_begins_4, rfl⟩ ⟨_, rfl, Nat.le_of_ble_eq_true rfl, Or.inl q211⟩ rfl hs hr k
theorem dX4_begins_7 : decode cX4_begins 7 = .ok (.invokevirtual 28, 3) := dk_182 0 28 (dk_at dksX4_begins_0 7 rfl rfl)
theorem iX4_begins_7 {d : Nat} {L S : List MV} {M : MH} {Q : Out → MH → Prop} {b : Nat} {P : Int → MH → Prop} (hs : (msh M b).1 = 0) (hM : MCi mX0_houses d [vp b] M P) (k : ∀ z M', P z M' → MW mX4_begins (d + 1) 10 L (vi z :: S) M' Q) (h8 : Nat.ble (S.map mcat).sum 8 = true := by rfl) : MW mX4_begins (d + 1) 7 L (vp b :: S) M Q := mw_calli (as := [vp b]) (site_V (Y' := mX0_houses) (n := 0) ⟨dX4_begins_7, rfl⟩ (Or.inr ⟨_, lw_b q775 rfl⟩) q633 qs6 wX0_houses nX0_houses hX0_houses (cls_of (ci := 0) rfl hs) rfl) kX0_houses (Nat.le_of_ble_eq_true h8) hM k
theorem dX4_begins_10 : decode cX4_begins 10 = .ok (.if_icmp .ge 26, 3) := dk_162 0 26 (dk_at dksX4_begins_0 10 rfl rfl)
theorem iX4_begins_10 {d : Nat} {L S : List MV} {M : MH} {Q : Out → MH → Prop} {a b : Int} (ha : inR a) (hb : inR b) (kt : b ≤ a → MW mX4_begins d 36 L S M Q) (kf : ¬ b ≤ a → MW mX4_begins d 13 L S M Q) : MW mX4_begins d 10 L (vi b :: vi a :: S) M Q := mw_icmp_ge ⟨dX4_begins_10, rfl⟩ rfl ha hb kt kf
theorem dX4_begins_13 : decode cX4_begins 13 = .ok (.aload_n 0, 1) := dk_42 (dk_at dksX4_begins_0 13 rfl rfl)
theorem iX4_begins_13 {d : Nat} {r S : List MV} {M : MH} {Q : Out → MH → Prop} {o : Option Nat} (k : MW mX4_begins d 14 (vr o :: r) (vr o :: S) M Q) : MW mX4_begins d 13 (vr o :: r) S M Q := mw_aload_n ⟨dX4_begins_13, rfl⟩ rfl k
theorem dX4_begins_14 : decode cX4_begins 14 = .ok (.getfield 19, 3) := dk_180 0 19 (dk_at dksX4_begins_0 14 rfl rfl)
theorem iX4_begins_14 {d : Nat} {L S : List MV} {M : MH} {Q : Out → MH → Prop} {a : Nat} {o : Option Nat} (hs : (msh M a).1 = 6) (hr : mrv M a 1 = o) (k : MW mX4_begins d 17 L (vr o :: S) M Q) : MW mX4_begins d 14 L (vp a :: S) M Q := mw_getR (ci := 6) (k := 1) ⟨dX4_begins_14, rfl⟩ ⟨_, rfl, Nat.le_of_ble_eq_true rfl, Or.inl q203⟩ rfl hs hr k
theorem dX4_begins_17 : decode cX4_begins 17 = .ok (.iload_n 1, 1) := dk_27 (dk_at dksX4_begins_0 17 rfl rfl)
theorem iX4_begins_17 {d : Nat} {r S : List MV} {M : MH} {Q : Out → MH → Prop} {w0 : MV} {z : Int} (k : MW mX4_begins d 18 (w0 :: vi z :: r) (vi z :: S) M Q) : MW mX4_begins d 17 (w0 :: vi z :: r) S M Q := mw_iload_n ⟨dX4_begins_17, rfl⟩ rfl k
theorem dX4_begins_18 : decode cX4_begins 18 = .ok (.aload_n 0, 1) := dk_42 (dk_at dksX4_begins_0 18 rfl rfl)
theorem iX4_begins_18 {d : Nat} {r S : List MV} {M : MH} {Q : Out → MH → Prop} {o : Option Nat} (k : MW mX4_begins d 19 (vr o :: r) (vr o :: S) M Q) : MW mX4_begins d 18 (vr o :: r) S M Q := mw_aload_n ⟨dX4_begins_18, rfl⟩ rfl k
theorem dX4_begins_19 : decode cX4_begins 19 = .ok (.getfield 3, 3) := dk_180 0 3 (dk_at dksX4_begins_0 19 rfl rfl)
theorem iX4_begins_19 {d : Nat} {L S : List MV} {M : MH} {Q : Out → MH → Prop} {a : Nat} {o : Option Nat} (hs : (msh M a).1 = 6) (hr : mrv M a 5 = o) (k : MW mX4_begins d 22 L (vr o :: S) M Q) : MW mX4_begins d 19 L (vp a :: S) M Q := mw_getR (ci := 6) (k := 5) ⟨dX4_begins_19, rfl⟩ ⟨_, rfl, Nat.le_of_ble_eq_true rfl, Or.inl q211⟩ rfl hs hr k
theorem dX4_begins_22 : decode cX4_begins 22 = .ok (.iload_n 1, 1) := dk_27 (dk_at dksX4_begins_0 22 rfl rfl)
theorem iX4_begins_22 {d : Nat} {r S : List MV} {M : MH} {Q : Out → MH → Prop} {w0 : MV} {z : Int} (k : MW mX4_begins d 23 (w0 :: vi z :: r) (vi z :: S) M Q) : MW mX4_begins d 22 (w0 :: vi z :: r) S M Q := mw_iload_n ⟨dX4_begins_22, rfl⟩ rfl k
theorem dX4_begins_23 : decode cX4_begins 23 = .ok (.invokevirtual 32, 3) := dk_182 0 32 (dk_at dksX4_begins_1 0 rfl rfl)
theorem iX4_begins_23 {d : Nat} {L S : List MV} {M : MH} {Q : Out → MH → Prop} {v1 : MV} {b : Nat} {P : Option Nat → MH → Prop} (hs : (msh M b).1 = 0) (hM : MCr mX0_house_2 d [vp b, v1] M P) (k : ∀ o M', P o M' → MW mX4_begins (d + 1) 26 L (vr o :: S) M' Q) (h8 : Nat.ble (S.map mcat).sum 8 = true := by rfl) : MW mX4_begins (d + 1) 23 L (v1 :: vp b :: S) M Q := mw_callr (as := [vp b, v1]) (site_V (Y' := mX0_house_2) (n := 1) ⟨dX4_begins_23, rfl⟩ (Or.inr ⟨_, lw_b q776 rfl⟩) q649 qs8 wX0_house_2 nX0_house_2 hX0_house_2 (cls_of (ci := 0) rfl hs) rfl) kX0_house_2 (Nat.le_of_ble_eq_true h8) hM k
theorem dX4_begins_26 : decode cX4_begins 26 = .ok (.getfield 36, 3) := dk_180 0 36 (dk_at dksX4_begins_1 3 rfl rfl)
theorem iX4_begins_26 {d : Nat} {L S : List MV} {M : MH} {Q : Out → MH → Prop} {a : Nat} (hs : (msh M a).1 = 4) (k : MW mX4_begins d 29 L (vi (miv M a 0) :: S) M Q) : MW mX4_begins d 26 L (vp a :: S) M Q := mw_getI (ci := 4) (k := 0) ⟨dX4_begins_26, rfl⟩ ⟨_, rfl, Nat.le_of_ble_eq_true rfl, Or.inr (Or.inr ⟨_, lw_b q548 rfl⟩)⟩ rfl hs k
theorem dX4_begins_29 : decode cX4_begins 29 = .ok (.iastore, 1) := dk_79 (dk_at dksX4_begins_1 6 rfl rfl)
theorem iX4_begins_29 {d : Nat} {L S : List MV} {M : MH} {Q : Out → MH → Prop} {a n : Nat} {z v : Int} (hs : msh M a = (100, n)) (hi : 0 ≤ z ∧ z < n) (k : MW mX4_begins d 30 L S (wI M a z.toNat v) Q) (hn : Nat.ble n 2147483647 = true := by rfl) : MW mX4_begins d 29 L (vi v :: vi z :: vp a :: S) M Q := mw_iastore ⟨dX4_begins_29, rfl⟩ hs (Nat.le_of_ble_eq_true hn) hi k
theorem dX4_begins_30 : decode cX4_begins 30 = .ok (.iinc 1 1, 3) := dk_132 1 1 (dk_at dksX4_begins_1 7 rfl rfl)
theorem iX4_begins_30 {d : Nat} {r S : List MV} {M : MH} {Q : Out → MH → Prop} {w0 : MV} {z : Int} (k : MW mX4_begins d 33 (w0 :: vi (z + 1) :: r) S M Q) (hok : okSt (w0 :: vi z :: r) 1 = true := by rfl) : MW mX4_begins d 30 (w0 :: vi z :: r) S M Q := mw_iinc (i := 1) ⟨dX4_begins_30, rfl⟩ rfl (Nat.le_of_ble_eq_true rfl) hok k
theorem dX4_begins_33 : decode cX4_begins 33 = .ok (.goto (-31), 3) := dk_167 255 225 (dk_at dksX4_begins_1 10 rfl rfl)
theorem iX4_begins_33 {d : Nat} {L S : List MV} {M : MH} {Q : Out → MH → Prop}  (k : MW mX4_begins d 2 (L) S M Q) : MW mX4_begins d 33 (L) S M Q := mw_goto ⟨dX4_begins_33, rfl⟩ rfl k
theorem dX4_begins_36 : decode cX4_begins 36 = .ok (.aload_n 0, 1) := dk_42 (dk_at dksX4_begins_1 13 rfl rfl)
theorem iX4_begins_36 {d : Nat} {r S : List MV} {M : MH} {Q : Out → MH → Prop} {o : Option Nat} (k : MW mX4_begins d 37 (vr o :: r) (vr o :: S) M Q) : MW mX4_begins d 36 (vr o :: r) S M Q := mw_aload_n ⟨dX4_begins_36, rfl⟩ rfl k
theorem dX4_begins_37 : decode cX4_begins 37 = .ok (.invokevirtual 42, 3) := dk_182 0 42 (dk_at dksX4_begins_1 14 rfl rfl)
theorem iX4_begins_37 {d : Nat} {L S : List MV} {M : MH} {Q : Out → MH → Prop} {b : Nat} {P : Option Nat → MH → Prop} (hs : (msh M b).1 = 6) (hM : MCr mX4_forgets d [vp b] M P) (k : ∀ o M', P o M' → MW mX4_begins (d + 1) 40 L (vr o :: S) M' Q) (h8 : Nat.ble (S.map mcat).sum 8 = true := by rfl) : MW mX4_begins (d + 1) 37 L (vp b :: S) M Q := mw_callr (as := [vp b]) (site_V (Y' := mX4_forgets) (n := 0) ⟨dX4_begins_37, rfl⟩ (Or.inl q777) q778 q779 wX4_forgets nX4_forgets hX4_forgets (cls_of (ci := 6) rfl hs) rfl) kX4_forgets (Nat.le_of_ble_eq_true h8) hM k
theorem dX4_begins_40 : decode cX4_begins 40 = .ok (.pop, 1) := dk_87 (dk_at dksX4_begins_1 17 rfl rfl)
theorem iX4_begins_40 {d : Nat} {L S : List MV} {M : MH} {Q : Out → MH → Prop} {v : MV} (k : MW mX4_begins d 41 L S M Q) (hv : mcat v = 1 := by rfl) : MW mX4_begins d 40 L (v :: S) M Q := mw_pop ⟨dX4_begins_40, rfl⟩ hv k
theorem dX4_begins_41 : decode cX4_begins 41 = .ok (.aload_n 0, 1) := dk_42 (dk_at dksX4_begins_1 18 rfl rfl)
theorem iX4_begins_41 {d : Nat} {r S : List MV} {M : MH} {Q : Out → MH → Prop} {o : Option Nat} (k : MW mX4_begins d 42 (vr o :: r) (vr o :: S) M Q) : MW mX4_begins d 41 (vr o :: r) S M Q := mw_aload_n ⟨dX4_begins_41, rfl⟩ rfl k
theorem dX4_begins_42 : decode cX4_begins 42 = .ok (.areturn, 1) := dk_176 (dk_at dksX4_begins_1 19 rfl rfl)
theorem iX4_begins_42 {d : Nat} {L : List MV} {M : MH} {P : Option Nat → MH → Prop} {o : Option Nat} (hq : P o M) : MW mX4_begins d 42 L [vr o] M (Rr P) := mw_retr ⟨dX4_begins_42, rfl⟩ rfl (Or.inl ⟨_, rfl⟩) hq
/-! X4_forgets -/
def dkwX4_forgets_1 : List UInt8 := [27, 3, 79, 132, 1, 1, 167, 255, 228, 42, 176]
abbrev dktX4_forgets_1 : List UInt8 := dkwX4_forgets_1 ++ []
def dkwX4_forgets_0 : List UInt8 := [3, 60, 27, 42, 180, 0, 3, 182, 0, 46, 162, 0, 23, 42, 180, 0, 22, 27, 27, 79, 42, 180, 0, 25]
abbrev dktX4_forgets_0 : List UInt8 := dkwX4_forgets_0 ++ dktX4_forgets_1
theorem dksX4_forgets_0 : cX4_forgets.data.toList.drop 0 = dktX4_forgets_0 := by decide +kernel
theorem dksX4_forgets_1 : cX4_forgets.data.toList.drop 24 = dktX4_forgets_1 := dk_seg dksX4_forgets_0 24 rfl rfl
theorem dX4_forgets_0 : decode cX4_forgets 0 = .ok (.iconst 0, 1) := dk_3 (dk_at dksX4_forgets_0 0 rfl rfl)
theorem iX4_forgets_0 {d : Nat} {L S : List MV} {M : MH} {Q : Out → MH → Prop}  (k : MW mX4_forgets d 1 (L) (vi 0 :: S) M Q) : MW mX4_forgets d 0 (L) S M Q := mw_iconst ⟨dX4_forgets_0, rfl⟩ k
theorem dX4_forgets_1 : decode cX4_forgets 1 = .ok (.istore_n 1, 1) := dk_60 (dk_at dksX4_forgets_0 1 rfl rfl)
theorem iX4_forgets_1 {d : Nat} {r S : List MV} {M : MH} {Q : Out → MH → Prop} {w0 : MV} {z : Int} {v : MV} (k : MW mX4_forgets d 2 (w0 :: vi z :: r) S M Q) (hok : okSt (w0 :: v :: r) 1 = true := by rfl) : MW mX4_forgets d 1 (w0 :: v :: r) (vi z :: S) M Q := mw_istore_n (i := 1) ⟨dX4_forgets_1, rfl⟩ rfl (Nat.le_of_ble_eq_true rfl) hok k
theorem dX4_forgets_2 : decode cX4_forgets 2 = .ok (.iload_n 1, 1) := dk_27 (dk_at dksX4_forgets_0 2 rfl rfl)
theorem iX4_forgets_2 {d : Nat} {r S : List MV} {M : MH} {Q : Out → MH → Prop} {w0 : MV} {z : Int} (k : MW mX4_forgets d 3 (w0 :: vi z :: r) (vi z :: S) M Q) : MW mX4_forgets d 2 (w0 :: vi z :: r) S M Q := mw_iload_n ⟨dX4_forgets_2, rfl⟩ rfl k
theorem dX4_forgets_3 : decode cX4_forgets 3 = .ok (.aload_n 0, 1) := dk_42 (dk_at dksX4_forgets_0 3 rfl rfl)
theorem iX4_forgets_3 {d : Nat} {r S : List MV} {M : MH} {Q : Out → MH → Prop} {o : Option Nat} (k : MW mX4_forgets d 4 (vr o :: r) (vr o :: S) M Q) : MW mX4_forgets d 3 (vr o :: r) S M Q := mw_aload_n ⟨dX4_forgets_3, rfl⟩ rfl k
theorem dX4_forgets_4 : decode cX4_forgets 4 = .ok (.getfield 3, 3) := dk_180 0 3 (dk_at dksX4_forgets_0 4 rfl rfl)
theorem iX4_forgets_4 {d : Nat} {L S : List MV} {M : MH} {Q : Out → MH → Prop} {a : Nat} {o : Option Nat} (hs : (msh M a).1 = 6) (hr : mrv M a 5 = o) (k : MW mX4_forgets d 7 L (vr o :: S) M Q) : MW mX4_forgets d 4 L (vp a :: S) M Q := mw_getR (ci := 6) (k := 5) ⟨dX4_forgets_4, rfl⟩ ⟨_, rfl, Nat.le_of_ble_eq_true rfl, Or.inl q211⟩ rfl hs hr k
theorem dX4_forgets_7 : decode cX4_forgets 7 = .ok (.invokevirtual 46, 3) := dk_182 0 46 (dk_at dksX4_forgets_0 7 rfl rfl)
theorem iX4_forgets_7 {d : Nat} {L S : List MV} {M : MH} {Q : Out → MH → Prop} {b : Nat} {P : Int → MH → Prop} (hs : (msh M b).1 = 0) (hM : MCi mX0_people d [vp b] M P) (k : ∀ z M', P z M' → MW mX4_forgets (d + 1) 10 L (vi z :: S) M' Q) (h8 : Nat.ble (S.map mcat).sum 8 = true := by rfl) : MW mX4_forgets (d + 1) 7 L (vp b :: S) M Q := mw_calli (as := [vp b]) (site_V (Y' := mX0_people) (n := 0) ⟨dX4_forgets_7, rfl⟩ (Or.inr ⟨_, lw_b q781 rfl⟩) q678 qs10 wX0_people nX0_people hX0_people (cls_of (ci := 0) rfl hs) rfl) kX0_people (Nat.le_of_ble_eq_true h8) hM k
theorem dX4_forgets_10 : decode cX4_forgets 10 = .ok (.if_icmp .ge 23, 3) := dk_162 0 23 (dk_at dksX4_forgets_0 10 rfl rfl)
theorem iX4_forgets_10 {d : Nat} {L S : List MV} {M : MH} {Q : Out → MH → Prop} {a b : Int} (ha : inR a) (hb : inR b) (kt : b ≤ a → MW mX4_forgets d 33 L S M Q) (kf : ¬ b ≤ a → MW mX4_forgets d 13 L S M Q) : MW mX4_forgets d 10 L (vi b :: vi a :: S) M Q := mw_icmp_ge ⟨dX4_forgets_10, rfl⟩ rfl ha hb kt kf
theorem dX4_forgets_13 : decode cX4_forgets 13 = .ok (.aload_n 0, 1) := dk_42 (dk_at dksX4_forgets_0 13 rfl rfl)
theorem iX4_forgets_13 {d : Nat} {r S : List MV} {M : MH} {Q : Out → MH → Prop} {o : Option Nat} (k : MW mX4_forgets d 14 (vr o :: r) (vr o :: S) M Q) : MW mX4_forgets d 13 (vr o :: r) S M Q := mw_aload_n ⟨dX4_forgets_13, rfl⟩ rfl k
theorem dX4_forgets_14 : decode cX4_forgets 14 = .ok (.getfield 22, 3) := dk_180 0 22 (dk_at dksX4_forgets_0 14 rfl rfl)
theorem iX4_forgets_14 {d : Nat} {L S : List MV} {M : MH} {Q : Out → MH → Prop} {a : Nat} {o : Option Nat} (hs : (msh M a).1 = 6) (hr : mrv M a 2 = o) (k : MW mX4_forgets d 17 L (vr o :: S) M Q) : MW mX4_forgets d 14 L (vp a :: S) M Q := mw_getR (ci := 6) (k := 2) ⟨dX4_forgets_14, rfl⟩ ⟨_, rfl, Nat.le_of_ble_eq_true rfl, Or.inl q206⟩ rfl hs hr k
theorem dX4_forgets_17 : decode cX4_forgets 17 = .ok (.iload_n 1, 1) := dk_27 (dk_at dksX4_forgets_0 17 rfl rfl)
theorem iX4_forgets_17 {d : Nat} {r S : List MV} {M : MH} {Q : Out → MH → Prop} {w0 : MV} {z : Int} (k : MW mX4_forgets d 18 (w0 :: vi z :: r) (vi z :: S) M Q) : MW mX4_forgets d 17 (w0 :: vi z :: r) S M Q := mw_iload_n ⟨dX4_forgets_17, rfl⟩ rfl k
theorem dX4_forgets_18 : decode cX4_forgets 18 = .ok (.iload_n 1, 1) := dk_27 (dk_at dksX4_forgets_0 18 rfl rfl)
theorem iX4_forgets_18 {d : Nat} {r S : List MV} {M : MH} {Q : Out → MH → Prop} {w0 : MV} {z : Int} (k : MW mX4_forgets d 19 (w0 :: vi z :: r) (vi z :: S) M Q) : MW mX4_forgets d 18 (w0 :: vi z :: r) S M Q := mw_iload_n ⟨dX4_forgets_18, rfl⟩ rfl k
theorem dX4_forgets_19 : decode cX4_forgets 19 = .ok (.iastore, 1) := dk_79 (dk_at dksX4_forgets_0 19 rfl rfl)
theorem iX4_forgets_19 {d : Nat} {L S : List MV} {M : MH} {Q : Out → MH → Prop} {a n : Nat} {z v : Int} (hs : msh M a = (100, n)) (hi : 0 ≤ z ∧ z < n) (k : MW mX4_forgets d 20 L S (wI M a z.toNat v) Q) (hn : Nat.ble n 2147483647 = true := by rfl) : MW mX4_forgets d 19 L (vi v :: vi z :: vp a :: S) M Q := mw_iastore ⟨dX4_forgets_19, rfl⟩ hs (Nat.le_of_ble_eq_true hn) hi k
theorem dX4_forgets_20 : decode cX4_forgets 20 = .ok (.aload_n 0, 1) := dk_42 (dk_at dksX4_forgets_0 20 rfl rfl)
theorem iX4_forgets_20 {d : Nat} {r S : List MV} {M : MH} {Q : Out → MH → Prop} {o : Option Nat} (k : MW mX4_forgets d 21 (vr o :: r) (vr o :: S) M Q) : MW mX4_forgets d 20 (vr o :: r) S M Q := mw_aload_n ⟨dX4_forgets_20, rfl⟩ rfl k
theorem dX4_forgets_21 : decode cX4_forgets 21 = .ok (.getfield 25, 3) := dk_180 0 25 (dk_at dksX4_forgets_0 21 rfl rfl)
theorem iX4_forgets_21 {d : Nat} {L S : List MV} {M : MH} {Q : Out → MH → Prop} {a : Nat} {o : Option Nat} (hs : (msh M a).1 = 6) (hr : mrv M a 3 = o) (k : MW mX4_forgets d 24 L (vr o :: S) M Q) : MW mX4_forgets d 21 L (vp a :: S) M Q := mw_getR (ci := 6) (k := 3) ⟨dX4_forgets_21, rfl⟩ ⟨_, rfl, Nat.le_of_ble_eq_true rfl, Or.inl q208⟩ rfl hs hr k
theorem dX4_forgets_24 : decode cX4_forgets 24 = .ok (.iload_n 1, 1) := dk_27 (dk_at dksX4_forgets_1 0 rfl rfl)
theorem iX4_forgets_24 {d : Nat} {r S : List MV} {M : MH} {Q : Out → MH → Prop} {w0 : MV} {z : Int} (k : MW mX4_forgets d 25 (w0 :: vi z :: r) (vi z :: S) M Q) : MW mX4_forgets d 24 (w0 :: vi z :: r) S M Q := mw_iload_n ⟨dX4_forgets_24, rfl⟩ rfl k
theorem dX4_forgets_25 : decode cX4_forgets 25 = .ok (.iconst 0, 1) := dk_3 (dk_at dksX4_forgets_1 1 rfl rfl)
theorem iX4_forgets_25 {d : Nat} {L S : List MV} {M : MH} {Q : Out → MH → Prop}  (k : MW mX4_forgets d 26 (L) (vi 0 :: S) M Q) : MW mX4_forgets d 25 (L) S M Q := mw_iconst ⟨dX4_forgets_25, rfl⟩ k
theorem dX4_forgets_26 : decode cX4_forgets 26 = .ok (.iastore, 1) := dk_79 (dk_at dksX4_forgets_1 2 rfl rfl)
theorem iX4_forgets_26 {d : Nat} {L S : List MV} {M : MH} {Q : Out → MH → Prop} {a n : Nat} {z v : Int} (hs : msh M a = (100, n)) (hi : 0 ≤ z ∧ z < n) (k : MW mX4_forgets d 27 L S (wI M a z.toNat v) Q) (hn : Nat.ble n 2147483647 = true := by rfl) : MW mX4_forgets d 26 L (vi v :: vi z :: vp a :: S) M Q := mw_iastore ⟨dX4_forgets_26, rfl⟩ hs (Nat.le_of_ble_eq_true hn) hi k
theorem dX4_forgets_27 : decode cX4_forgets 27 = .ok (.iinc 1 1, 3) := dk_132 1 1 (dk_at dksX4_forgets_1 3 rfl rfl)
theorem iX4_forgets_27 {d : Nat} {r S : List MV} {M : MH} {Q : Out → MH → Prop} {w0 : MV} {z : Int} (k : MW mX4_forgets d 30 (w0 :: vi (z + 1) :: r) S M Q) (hok : okSt (w0 :: vi z :: r) 1 = true := by rfl) : MW mX4_forgets d 27 (w0 :: vi z :: r) S M Q := mw_iinc (i := 1) ⟨dX4_forgets_27, rfl⟩ rfl (Nat.le_of_ble_eq_true rfl) hok k
theorem dX4_forgets_30 : decode cX4_forgets 30 = .ok (.goto (-28), 3) := dk_167 255 228 (dk_at dksX4_forgets_1 6 rfl rfl)
theorem iX4_forgets_30 {d : Nat} {L S : List MV} {M : MH} {Q : Out → MH → Prop}  (k : MW mX4_forgets d 2 (L) S M Q) : MW mX4_forgets d 30 (L) S M Q := mw_goto ⟨dX4_forgets_30, rfl⟩ rfl k
theorem dX4_forgets_33 : decode cX4_forgets 33 = .ok (.aload_n 0, 1) := dk_42 (dk_at dksX4_forgets_1 9 rfl rfl)
theorem iX4_forgets_33 {d : Nat} {r S : List MV} {M : MH} {Q : Out → MH → Prop} {o : Option Nat} (k : MW mX4_forgets d 34 (vr o :: r) (vr o :: S) M Q) : MW mX4_forgets d 33 (vr o :: r) S M Q := mw_aload_n ⟨dX4_forgets_33, rfl⟩ rfl k
theorem dX4_forgets_34 : decode cX4_forgets 34 = .ok (.areturn, 1) := dk_176 (dk_at dksX4_forgets_1 10 rfl rfl)
theorem iX4_forgets_34 {d : Nat} {L : List MV} {M : MH} {P : Option Nat → MH → Prop} {o : Option Nat} (hq : P o M) : MW mX4_forgets d 34 L [vr o] M (Rr P) := mw_retr ⟨dX4_forgets_34, rfl⟩ rfl (Or.inl ⟨_, rfl⟩) hq
/-! X4_asTold -/
def dkwX4_asTold_1 : List UInt8 := [182, 0, 49, 79, 132, 1, 1, 167, 255, 228, 42, 176]
abbrev dktX4_asTold_1 : List UInt8 := dkwX4_asTold_1 ++ []
def dkwX4_asTold_0 : List UInt8 := [3, 60, 27, 42, 180, 0, 3, 182, 0, 46, 162, 0, 23, 42, 180, 0, 15, 27, 42, 180, 0, 3, 27]
abbrev dktX4_asTold_0 : List UInt8 := dkwX4_asTold_0 ++ dktX4_asTold_1
theorem dksX4_asTold_0 : cX4_asTold.data.toList.drop 0 = dktX4_asTold_0 := by decide +kernel
theorem dksX4_asTold_1 : cX4_asTold.data.toList.drop 23 = dktX4_asTold_1 := dk_seg dksX4_asTold_0 23 rfl rfl
theorem dX4_asTold_0 : decode cX4_asTold 0 = .ok (.iconst 0, 1) := dk_3 (dk_at dksX4_asTold_0 0 rfl rfl)
theorem iX4_asTold_0 {d : Nat} {L S : List MV} {M : MH} {Q : Out → MH → Prop}  (k : MW mX4_asTold d 1 (L) (vi 0 :: S) M Q) : MW mX4_asTold d 0 (L) S M Q := mw_iconst ⟨dX4_asTold_0, rfl⟩ k
theorem dX4_asTold_1 : decode cX4_asTold 1 = .ok (.istore_n 1, 1) := dk_60 (dk_at dksX4_asTold_0 1 rfl rfl)
theorem iX4_asTold_1 {d : Nat} {r S : List MV} {M : MH} {Q : Out → MH → Prop} {w0 : MV} {z : Int} {v : MV} (k : MW mX4_asTold d 2 (w0 :: vi z :: r) S M Q) (hok : okSt (w0 :: v :: r) 1 = true := by rfl) : MW mX4_asTold d 1 (w0 :: v :: r) (vi z :: S) M Q := mw_istore_n (i := 1) ⟨dX4_asTold_1, rfl⟩ rfl (Nat.le_of_ble_eq_true rfl) hok k
theorem dX4_asTold_2 : decode cX4_asTold 2 = .ok (.iload_n 1, 1) := dk_27 (dk_at dksX4_asTold_0 2 rfl rfl)
theorem iX4_asTold_2 {d : Nat} {r S : List MV} {M : MH} {Q : Out → MH → Prop} {w0 : MV} {z : Int} (k : MW mX4_asTold d 3 (w0 :: vi z :: r) (vi z :: S) M Q) : MW mX4_asTold d 2 (w0 :: vi z :: r) S M Q := mw_iload_n ⟨dX4_asTold_2, rfl⟩ rfl k
theorem dX4_asTold_3 : decode cX4_asTold 3 = .ok (.aload_n 0, 1) := dk_42 (dk_at dksX4_asTold_0 3 rfl rfl)
theorem iX4_asTold_3 {d : Nat} {r S : List MV} {M : MH} {Q : Out → MH → Prop} {o : Option Nat} (k : MW mX4_asTold d 4 (vr o :: r) (vr o :: S) M Q) : MW mX4_asTold d 3 (vr o :: r) S M Q := mw_aload_n ⟨dX4_asTold_3, rfl⟩ rfl k
theorem dX4_asTold_4 : decode cX4_asTold 4 = .ok (.getfield 3, 3) := dk_180 0 3 (dk_at dksX4_asTold_0 4 rfl rfl)
theorem iX4_asTold_4 {d : Nat} {L S : List MV} {M : MH} {Q : Out → MH → Prop} {a : Nat} {o : Option Nat} (hs : (msh M a).1 = 6) (hr : mrv M a 5 = o) (k : MW mX4_asTold d 7 L (vr o :: S) M Q) : MW mX4_asTold d 4 L (vp a :: S) M Q := mw_getR (ci := 6) (k := 5) ⟨dX4_asTold_4, rfl⟩ ⟨_, rfl, Nat.le_of_ble_eq_true rfl, Or.inl q211⟩ rfl hs hr k
theorem dX4_asTold_7 : decode cX4_asTold 7 = .ok (.invokevirtual 46, 3) := dk_182 0 46 (dk_at dksX4_asTold_0 7 rfl rfl)
theorem iX4_asTold_7 {d : Nat} {L S : List MV} {M : MH} {Q : Out → MH → Prop} {b : Nat} {P : Int → MH → Prop} (hs : (msh M b).1 = 0) (hM : MCi mX0_people d [vp b] M P) (k : ∀ z M', P z M' → MW mX4_asTold (d + 1) 10 L (vi z :: S) M' Q) (h8 : Nat.ble (S.map mcat).sum 8 = true := by rfl) : MW mX4_asTold (d + 1) 7 L (vp b :: S) M Q := mw_calli (as := [vp b]) (site_V (Y' := mX0_people) (n := 0) ⟨dX4_asTold_7, rfl⟩ (Or.inr ⟨_, lw_b q781 rfl⟩) q678 qs10 wX0_people nX0_people hX0_people (cls_of (ci := 0) rfl hs) rfl) kX0_people (Nat.le_of_ble_eq_true h8) hM k
theorem dX4_asTold_10 : decode cX4_asTold 10 = .ok (.if_icmp .ge 23, 3) := dk_162 0 23 (dk_at dksX4_asTold_0 10 rfl rfl)
theorem iX4_asTold_10 {d : Nat} {L S : List MV} {M : MH} {Q : Out → MH → Prop} {a b : Int} (ha : inR a) (hb : inR b) (kt : b ≤ a → MW mX4_asTold d 33 L S M Q) (kf : ¬ b ≤ a → MW mX4_asTold d 13 L S M Q) : MW mX4_asTold d 10 L (vi b :: vi a :: S) M Q := mw_icmp_ge ⟨dX4_asTold_10, rfl⟩ rfl ha hb kt kf
theorem dX4_asTold_13 : decode cX4_asTold 13 = .ok (.aload_n 0, 1) := dk_42 (dk_at dksX4_asTold_0 13 rfl rfl)
theorem iX4_asTold_13 {d : Nat} {r S : List MV} {M : MH} {Q : Out → MH → Prop} {o : Option Nat} (k : MW mX4_asTold d 14 (vr o :: r) (vr o :: S) M Q) : MW mX4_asTold d 13 (vr o :: r) S M Q := mw_aload_n ⟨dX4_asTold_13, rfl⟩ rfl k
theorem dX4_asTold_14 : decode cX4_asTold 14 = .ok (.getfield 15, 3) := dk_180 0 15 (dk_at dksX4_asTold_0 14 rfl rfl)
theorem iX4_asTold_14 {d : Nat} {L S : List MV} {M : MH} {Q : Out → MH → Prop} {a : Nat} {o : Option Nat} (hs : (msh M a).1 = 6) (hr : mrv M a 0 = o) (k : MW mX4_asTold d 17 L (vr o :: S) M Q) : MW mX4_asTold d 14 L (vp a :: S) M Q := mw_getR (ci := 6) (k := 0) ⟨dX4_asTold_14, rfl⟩ ⟨_, rfl, Nat.le_of_ble_eq_true rfl, Or.inl q201⟩ rfl hs hr k
theorem dX4_asTold_17 : decode cX4_asTold 17 = .ok (.iload_n 1, 1) := dk_27 (dk_at dksX4_asTold_0 17 rfl rfl)
theorem iX4_asTold_17 {d : Nat} {r S : List MV} {M : MH} {Q : Out → MH → Prop} {w0 : MV} {z : Int} (k : MW mX4_asTold d 18 (w0 :: vi z :: r) (vi z :: S) M Q) : MW mX4_asTold d 17 (w0 :: vi z :: r) S M Q := mw_iload_n ⟨dX4_asTold_17, rfl⟩ rfl k
theorem dX4_asTold_18 : decode cX4_asTold 18 = .ok (.aload_n 0, 1) := dk_42 (dk_at dksX4_asTold_0 18 rfl rfl)
theorem iX4_asTold_18 {d : Nat} {r S : List MV} {M : MH} {Q : Out → MH → Prop} {o : Option Nat} (k : MW mX4_asTold d 19 (vr o :: r) (vr o :: S) M Q) : MW mX4_asTold d 18 (vr o :: r) S M Q := mw_aload_n ⟨dX4_asTold_18, rfl⟩ rfl k
theorem dX4_asTold_19 : decode cX4_asTold 19 = .ok (.getfield 3, 3) := dk_180 0 3 (dk_at dksX4_asTold_0 19 rfl rfl)
theorem iX4_asTold_19 {d : Nat} {L S : List MV} {M : MH} {Q : Out → MH → Prop} {a : Nat} {o : Option Nat} (hs : (msh M a).1 = 6) (hr : mrv M a 5 = o) (k : MW mX4_asTold d 22 L (vr o :: S) M Q) : MW mX4_asTold d 19 L (vp a :: S) M Q := mw_getR (ci := 6) (k := 5) ⟨dX4_asTold_19, rfl⟩ ⟨_, rfl, Nat.le_of_ble_eq_true rfl, Or.inl q211⟩ rfl hs hr k
theorem dX4_asTold_22 : decode cX4_asTold 22 = .ok (.iload_n 1, 1) := dk_27 (dk_at dksX4_asTold_0 22 rfl rfl)
theorem iX4_asTold_22 {d : Nat} {r S : List MV} {M : MH} {Q : Out → MH → Prop} {w0 : MV} {z : Int} (k : MW mX4_asTold d 23 (w0 :: vi z :: r) (vi z :: S) M Q) : MW mX4_asTold d 22 (w0 :: vi z :: r) S M Q := mw_iload_n ⟨dX4_asTold_22, rfl⟩ rfl k
theorem dX4_asTold_23 : decode cX4_asTold 23 = .ok (.invokevirtual 49, 3) := dk_182 0 49 (dk_at dksX4_asTold_1 0 rfl rfl)
theorem iX4_asTold_23 {d : Nat} {L S : List MV} {M : MH} {Q : Out → MH → Prop} {v1 : MV} {b : Nat} {P : Int → MH → Prop} (hs : (msh M b).1 = 0) (hM : MCi mX0_placeOf d [vp b, v1] M P) (k : ∀ z M', P z M' → MW mX4_asTold (d + 1) 26 L (vi z :: S) M' Q) (h8 : Nat.ble (S.map mcat).sum 8 = true := by rfl) : MW mX4_asTold (d + 1) 23 L (v1 :: vp b :: S) M Q := mw_calli (as := [vp b, v1]) (site_V (Y' := mX0_placeOf) (n := 1) ⟨dX4_asTold_23, rfl⟩ (Or.inr ⟨_, lw_b q786 rfl⟩) q685 qs11 wX0_placeOf nX0_placeOf hX0_placeOf (cls_of (ci := 0) rfl hs) rfl) kX0_placeOf (Nat.le_of_ble_eq_true h8) hM k
theorem dX4_asTold_26 : decode cX4_asTold 26 = .ok (.iastore, 1) := dk_79 (dk_at dksX4_asTold_1 3 rfl rfl)
theorem iX4_asTold_26 {d : Nat} {L S : List MV} {M : MH} {Q : Out → MH → Prop} {a n : Nat} {z v : Int} (hs : msh M a = (100, n)) (hi : 0 ≤ z ∧ z < n) (k : MW mX4_asTold d 27 L S (wI M a z.toNat v) Q) (hn : Nat.ble n 2147483647 = true := by rfl) : MW mX4_asTold d 26 L (vi v :: vi z :: vp a :: S) M Q := mw_iastore ⟨dX4_asTold_26, rfl⟩ hs (Nat.le_of_ble_eq_true hn) hi k
theorem dX4_asTold_27 : decode cX4_asTold 27 = .ok (.iinc 1 1, 3) := dk_132 1 1 (dk_at dksX4_asTold_1 4 rfl rfl)
theorem iX4_asTold_27 {d : Nat} {r S : List MV} {M : MH} {Q : Out → MH → Prop} {w0 : MV} {z : Int} (k : MW mX4_asTold d 30 (w0 :: vi (z + 1) :: r) S M Q) (hok : okSt (w0 :: vi z :: r) 1 = true := by rfl) : MW mX4_asTold d 27 (w0 :: vi z :: r) S M Q := mw_iinc (i := 1) ⟨dX4_asTold_27, rfl⟩ rfl (Nat.le_of_ble_eq_true rfl) hok k
theorem dX4_asTold_30 : decode cX4_asTold 30 = .ok (.goto (-28), 3) := dk_167 255 228 (dk_at dksX4_asTold_1 7 rfl rfl)
theorem iX4_asTold_30 {d : Nat} {L S : List MV} {M : MH} {Q : Out → MH → Prop}  (k : MW mX4_asTold d 2 (L) S M Q) : MW mX4_asTold d 30 (L) S M Q := mw_goto ⟨dX4_asTold_30, rfl⟩ rfl k
theorem dX4_asTold_33 : decode cX4_asTold 33 = .ok (.aload_n 0, 1) := dk_42 (dk_at dksX4_asTold_1 10 rfl rfl)
theorem iX4_asTold_33 {d : Nat} {r S : List MV} {M : MH} {Q : Out → MH → Prop} {o : Option Nat} (k : MW mX4_asTold d 34 (vr o :: r) (vr o :: S) M Q) : MW mX4_asTold d 33 (vr o :: r) S M Q := mw_aload_n ⟨dX4_asTold_33, rfl⟩ rfl k
theorem dX4_asTold_34 : decode cX4_asTold 34 = .ok (.areturn, 1) := dk_176 (dk_at dksX4_asTold_1 11 rfl rfl)
theorem iX4_asTold_34 {d : Nat} {L : List MV} {M : MH} {P : Option Nat → MH → Prop} {o : Option Nat} (hq : P o M) : MW mX4_asTold d 34 L [vr o] M (Rr P) := mw_retr ⟨dX4_asTold_34, rfl⟩ rfl (Or.inl ⟨_, rfl⟩) hq
/-! X4_sells -/
def dkwX4_sells_1 : List UInt8 := [153, 0, 9, 42, 27, 28, 182, 0, 63, 42, 180, 0, 53, 184, 0, 67, 172]
abbrev dktX4_sells_1 : List UInt8 := dkwX4_sells_1 ++ []
def dkwX4_sells_0 : List UInt8 := [42, 3, 181, 0, 53, 42, 180, 0, 3, 27, 182, 0, 56, 153, 0, 20, 42, 180, 0, 3, 28, 182, 0, 60]
abbrev dktX4_sells_0 : List UInt8 := dkwX4_sells_0 ++ dktX4_sells_1
theorem dksX4_sells_0 : cX4_sells.data.toList.drop 0 = dktX4_sells_0 := by decide +kernel
theorem dksX4_sells_1 : cX4_sells.data.toList.drop 24 = dktX4_sells_1 := dk_seg dksX4_sells_0 24 rfl rfl
theorem dX4_sells_0 : decode cX4_sells 0 = .ok (.aload_n 0, 1) := dk_42 (dk_at dksX4_sells_0 0 rfl rfl)
theorem iX4_sells_0 {d : Nat} {r S : List MV} {M : MH} {Q : Out → MH → Prop} {o : Option Nat} (k : MW mX4_sells d 1 (vr o :: r) (vr o :: S) M Q) : MW mX4_sells d 0 (vr o :: r) S M Q := mw_aload_n ⟨dX4_sells_0, rfl⟩ rfl k
theorem dX4_sells_1 : decode cX4_sells 1 = .ok (.iconst 0, 1) := dk_3 (dk_at dksX4_sells_0 1 rfl rfl)
theorem iX4_sells_1 {d : Nat} {L S : List MV} {M : MH} {Q : Out → MH → Prop}  (k : MW mX4_sells d 2 (L) (vi 0 :: S) M Q) : MW mX4_sells d 1 (L) S M Q := mw_iconst ⟨dX4_sells_1, rfl⟩ k
theorem dX4_sells_2 : decode cX4_sells 2 = .ok (.putfield 53, 3) := dk_181 0 53 (dk_at dksX4_sells_0 2 rfl rfl)
theorem iX4_sells_2 {d : Nat} {L S : List MV} {M : MH} {Q : Out → MH → Prop} {a : Nat} {z : Int} (hs : (msh M a).1 = 6) (k : MW mX4_sells d 5 L S (wI M a 4 z) Q) : MW mX4_sells d 2 L (vi z :: vp a :: S) M Q := mw_putI (ci := 6) (k := 4) ⟨dX4_sells_2, rfl⟩ ⟨_, rfl, Nat.le_of_ble_eq_true rfl, Or.inl ⟨rfl, Or.inl q210⟩⟩ rfl hs k
theorem dX4_sells_5 : decode cX4_sells 5 = .ok (.aload_n 0, 1) := dk_42 (dk_at dksX4_sells_0 5 rfl rfl)
theorem iX4_sells_5 {d : Nat} {r S : List MV} {M : MH} {Q : Out → MH → Prop} {o : Option Nat} (k : MW mX4_sells d 6 (vr o :: r) (vr o :: S) M Q) : MW mX4_sells d 5 (vr o :: r) S M Q := mw_aload_n ⟨dX4_sells_5, rfl⟩ rfl k
theorem dX4_sells_6 : decode cX4_sells 6 = .ok (.getfield 3, 3) := dk_180 0 3 (dk_at dksX4_sells_0 6 rfl rfl)
theorem iX4_sells_6 {d : Nat} {L S : List MV} {M : MH} {Q : Out → MH → Prop} {a : Nat} {o : Option Nat} (hs : (msh M a).1 = 6) (hr : mrv M a 5 = o) (k : MW mX4_sells d 9 L (vr o :: S) M Q) : MW mX4_sells d 6 L (vp a :: S) M Q := mw_getR (ci := 6) (k := 5) ⟨dX4_sells_6, rfl⟩ ⟨_, rfl, Nat.le_of_ble_eq_true rfl, Or.inl q211⟩ rfl hs hr k
theorem dX4_sells_9 : decode cX4_sells 9 = .ok (.iload_n 1, 1) := dk_27 (dk_at dksX4_sells_0 9 rfl rfl)
theorem iX4_sells_9 {d : Nat} {r S : List MV} {M : MH} {Q : Out → MH → Prop} {w0 : MV} {z : Int} (k : MW mX4_sells d 10 (w0 :: vi z :: r) (vi z :: S) M Q) : MW mX4_sells d 9 (w0 :: vi z :: r) S M Q := mw_iload_n ⟨dX4_sells_9, rfl⟩ rfl k
theorem dX4_sells_10 : decode cX4_sells 10 = .ok (.invokevirtual 56, 3) := dk_182 0 56 (dk_at dksX4_sells_0 10 rfl rfl)
theorem iX4_sells_10 {d : Nat} {L S : List MV} {M : MH} {Q : Out → MH → Prop} {v1 : MV} {b : Nat} {P : Int → MH → Prop} (hs : (msh M b).1 = 0) (hM : MCi mX0_isHouse d [vp b, v1] M P) (k : ∀ z M', P z M' → MW mX4_sells (d + 1) 13 L (vi z :: S) M' Q) (h8 : Nat.ble (S.map mcat).sum 8 = true := by rfl) : MW mX4_sells (d + 1) 10 L (v1 :: vp b :: S) M Q := mw_calli (as := [vp b, v1]) (site_V (Y' := mX0_isHouse) (n := 1) ⟨dX4_sells_10, rfl⟩ (Or.inr ⟨_, lw_b q796 rfl⟩) q629 qs5 wX0_isHouse nX0_isHouse hX0_isHouse (cls_of (ci := 0) rfl hs) rfl) kX0_isHouse (Nat.le_of_ble_eq_true h8) hM k
theorem dX4_sells_13 : decode cX4_sells 13 = .ok (.ifCond .eq 20, 3) := dk_153 0 20 (dk_at dksX4_sells_0 13 rfl rfl)
theorem iX4_sells_13 {d : Nat} {L S : List MV} {M : MH} {Q : Out → MH → Prop} {a : Int} (ha : inR a) (kt : a = 0 → MW mX4_sells d 33 L S M Q) (kf : ¬ a = 0 → MW mX4_sells d 16 L S M Q) : MW mX4_sells d 13 L (vi a :: S) M Q := mw_if_eq ⟨dX4_sells_13, rfl⟩ rfl ha kt kf
theorem dX4_sells_16 : decode cX4_sells 16 = .ok (.aload_n 0, 1) := dk_42 (dk_at dksX4_sells_0 16 rfl rfl)
theorem iX4_sells_16 {d : Nat} {r S : List MV} {M : MH} {Q : Out → MH → Prop} {o : Option Nat} (k : MW mX4_sells d 17 (vr o :: r) (vr o :: S) M Q) : MW mX4_sells d 16 (vr o :: r) S M Q := mw_aload_n ⟨dX4_sells_16, rfl⟩ rfl k
theorem dX4_sells_17 : decode cX4_sells 17 = .ok (.getfield 3, 3) := dk_180 0 3 (dk_at dksX4_sells_0 17 rfl rfl)
theorem iX4_sells_17 {d : Nat} {L S : List MV} {M : MH} {Q : Out → MH → Prop} {a : Nat} {o : Option Nat} (hs : (msh M a).1 = 6) (hr : mrv M a 5 = o) (k : MW mX4_sells d 20 L (vr o :: S) M Q) : MW mX4_sells d 17 L (vp a :: S) M Q := mw_getR (ci := 6) (k := 5) ⟨dX4_sells_17, rfl⟩ ⟨_, rfl, Nat.le_of_ble_eq_true rfl, Or.inl q211⟩ rfl hs hr k
theorem dX4_sells_20 : decode cX4_sells 20 = .ok (.iload_n 2, 1) := dk_28 (dk_at dksX4_sells_0 20 rfl rfl)
theorem iX4_sells_20 {d : Nat} {r S : List MV} {M : MH} {Q : Out → MH → Prop} {w0 w1 : MV} {z : Int} (k : MW mX4_sells d 21 (w0 :: w1 :: vi z :: r) (vi z :: S) M Q) : MW mX4_sells d 20 (w0 :: w1 :: vi z :: r) S M Q := mw_iload_n ⟨dX4_sells_20, rfl⟩ rfl k
theorem dX4_sells_21 : decode cX4_sells 21 = .ok (.invokevirtual 60, 3) := dk_182 0 60 (dk_at dksX4_sells_0 21 rfl rfl)
theorem iX4_sells_21 {d : Nat} {L S : List MV} {M : MH} {Q : Out → MH → Prop} {v1 : MV} {b : Nat} {P : Int → MH → Prop} (hs : (msh M b).1 = 0) (hM : MCi mX0_isPerson d [vp b, v1] M P) (k : ∀ z M', P z M' → MW mX4_sells (d + 1) 24 L (vi z :: S) M' Q) (h8 : Nat.ble (S.map mcat).sum 8 = true := by rfl) : MW mX4_sells (d + 1) 21 L (v1 :: vp b :: S) M Q := mw_calli (as := [vp b, v1]) (site_V (Y' := mX0_isPerson) (n := 1) ⟨dX4_sells_21, rfl⟩ (Or.inr ⟨_, lw_b q797 rfl⟩) q701 qs13 wX0_isPerson nX0_isPerson hX0_isPerson (cls_of (ci := 0) rfl hs) rfl) kX0_isPerson (Nat.le_of_ble_eq_true h8) hM k
theorem dX4_sells_24 : decode cX4_sells 24 = .ok (.ifCond .eq 9, 3) := dk_153 0 9 (dk_at dksX4_sells_1 0 rfl rfl)
theorem iX4_sells_24 {d : Nat} {L S : List MV} {M : MH} {Q : Out → MH → Prop} {a : Int} (ha : inR a) (kt : a = 0 → MW mX4_sells d 33 L S M Q) (kf : ¬ a = 0 → MW mX4_sells d 27 L S M Q) : MW mX4_sells d 24 L (vi a :: S) M Q := mw_if_eq ⟨dX4_sells_24, rfl⟩ rfl ha kt kf
theorem dX4_sells_27 : decode cX4_sells 27 = .ok (.aload_n 0, 1) := dk_42 (dk_at dksX4_sells_1 3 rfl rfl)
theorem iX4_sells_27 {d : Nat} {r S : List MV} {M : MH} {Q : Out → MH → Prop} {o : Option Nat} (k : MW mX4_sells d 28 (vr o :: r) (vr o :: S) M Q) : MW mX4_sells d 27 (vr o :: r) S M Q := mw_aload_n ⟨dX4_sells_27, rfl⟩ rfl k
theorem dX4_sells_28 : decode cX4_sells 28 = .ok (.iload_n 1, 1) := dk_27 (dk_at dksX4_sells_1 4 rfl rfl)
theorem iX4_sells_28 {d : Nat} {r S : List MV} {M : MH} {Q : Out → MH → Prop} {w0 : MV} {z : Int} (k : MW mX4_sells d 29 (w0 :: vi z :: r) (vi z :: S) M Q) : MW mX4_sells d 28 (w0 :: vi z :: r) S M Q := mw_iload_n ⟨dX4_sells_28, rfl⟩ rfl k
theorem dX4_sells_29 : decode cX4_sells 29 = .ok (.iload_n 2, 1) := dk_28 (dk_at dksX4_sells_1 5 rfl rfl)
theorem iX4_sells_29 {d : Nat} {r S : List MV} {M : MH} {Q : Out → MH → Prop} {w0 w1 : MV} {z : Int} (k : MW mX4_sells d 30 (w0 :: w1 :: vi z :: r) (vi z :: S) M Q) : MW mX4_sells d 29 (w0 :: w1 :: vi z :: r) S M Q := mw_iload_n ⟨dX4_sells_29, rfl⟩ rfl k
theorem dX4_sells_30 : decode cX4_sells 30 = .ok (.invokevirtual 63, 3) := dk_182 0 63 (dk_at dksX4_sells_1 6 rfl rfl)
theorem iX4_sells_30 {d : Nat} {L S : List MV} {M : MH} {Q : Out → MH → Prop} {v1 v2 : MV} {b : Nat} {P : MH → Prop} (hs : (msh M b).1 = 6) (hM : MCv mX4_goes d [vp b, v1, v2] M P) (k : ∀ M', P M' → MW mX4_sells (d + 1) 33 L S M' Q) (h8 : Nat.ble (S.map mcat).sum 8 = true := by rfl) : MW mX4_sells (d + 1) 30 L (v2 :: v1 :: vp b :: S) M Q := mw_callv (as := [vp b, v1, v2]) (site_V (Y' := mX4_goes) (n := 2) ⟨dX4_sells_30, rfl⟩ (Or.inl q798) q800 qs20 wX4_goes nX4_goes hX4_goes (cls_of (ci := 6) rfl hs) rfl) kX4_goes (Nat.le_of_ble_eq_true h8) hM k
theorem dX4_sells_33 : decode cX4_sells 33 = .ok (.aload_n 0, 1) := dk_42 (dk_at dksX4_sells_1 9 rfl rfl)
theorem iX4_sells_33 {d : Nat} {r S : List MV} {M : MH} {Q : Out → MH → Prop} {o : Option Nat} (k : MW mX4_sells d 34 (vr o :: r) (vr o :: S) M Q) : MW mX4_sells d 33 (vr o :: r) S M Q := mw_aload_n ⟨dX4_sells_33, rfl⟩ rfl k
theorem dX4_sells_34 : decode cX4_sells 34 = .ok (.getfield 53, 3) := dk_180 0 53 (dk_at dksX4_sells_1 10 rfl rfl)
theorem iX4_sells_34 {d : Nat} {L S : List MV} {M : MH} {Q : Out → MH → Prop} {a : Nat} (hs : (msh M a).1 = 6) (k : MW mX4_sells d 37 L (vi (miv M a 4) :: S) M Q) : MW mX4_sells d 34 L (vp a :: S) M Q := mw_getI (ci := 6) (k := 4) ⟨dX4_sells_34, rfl⟩ ⟨_, rfl, Nat.le_of_ble_eq_true rfl, Or.inl q210⟩ rfl hs k
theorem dX4_sells_37 : decode cX4_sells 37 = .ok (.invokestatic 67, 3) := dk_184 0 67 (dk_at dksX4_sells_1 13 rfl rfl)
theorem iX4_sells_37 {d : Nat} {L S : List MV} {M : MH} {Q : Out → MH → Prop} {v1 : MV} {P : Int → MH → Prop} (hM : MCi mJ10_bitCount d [v1] M P) (k : ∀ z M', P z M' → MW mX4_sells (d + 1) 40 L (vi z :: S) M' Q) (h8 : Nat.ble (S.map mcat).sum 8 = true := by rfl) : MW mX4_sells (d + 1) 37 L (v1 :: S) M Q := mw_calli (as := [v1]) (site_S (Y' := mJ10_bitCount) (n := 1) ⟨dX4_sells_37, rfl⟩ (Or.inl q809) q810 q112 wJ10_bitCount nJ10_bitCount hJ10_bitCount rfl) kJ10_bitCount (Nat.le_of_ble_eq_true h8) hM k
theorem dX4_sells_40 : decode cX4_sells 40 = .ok (.ireturn, 1) := dk_172 (dk_at dksX4_sells_1 16 rfl rfl)
theorem iX4_sells_40 {d : Nat} {L : List MV} {M : MH} {P : Int → MH → Prop} {z : Int} (hq : P z M) : MW mX4_sells d 40 L [vi z] M (Ri P) := mw_reti ⟨dX4_sells_40, rfl⟩ rfl hq
/-! X4_goes -/
def dkwX4_goes_4 : List UInt8 := [28, 159, 0, 14, 21, 4, 153, 0, 9, 42, 29, 28, 182, 0, 79, 132, 3, 1, 167, 255, 175, 177]
abbrev dktX4_goes_4 : List UInt8 := dkwX4_goes_4 ++ []
def dkwX4_goes_3 : List UInt8 := [42, 180, 0, 3, 180, 0, 76, 3, 46, 4, 160, 0, 29, 42, 180, 0, 15, 29, 46, 27, 160, 0, 19, 29]
abbrev dktX4_goes_3 : List UInt8 := dkwX4_goes_3 ++ dktX4_goes_4
def dkwX4_goes_2 : List UInt8 := [180, 0, 76, 5, 46, 153, 0, 12, 42, 180, 0, 25, 29, 46, 154, 0, 7, 4, 167, 0, 4, 3, 54, 4]
abbrev dktX4_goes_2 : List UInt8 := dkwX4_goes_2 ++ dktX4_goes_3
def dkwX4_goes_1 : List UInt8 := [42, 180, 0, 19, 27, 28, 79, 3, 62, 29, 42, 180, 0, 3, 182, 0, 46, 162, 0, 76, 42, 180, 0, 3]
abbrev dktX4_goes_1 : List UInt8 := dkwX4_goes_1 ++ dktX4_goes_2
def dkwX4_goes_0 : List UInt8 := [42, 180, 0, 53, 27, 184, 0, 72, 153, 0, 4, 177, 42, 89, 180, 0, 53, 4, 27, 120, 128, 181, 0, 53]
abbrev dktX4_goes_0 : List UInt8 := dkwX4_goes_0 ++ dktX4_goes_1
theorem dksX4_goes_0 : cX4_goes.data.toList.drop 0 = dktX4_goes_0 := by decide +kernel
theorem dksX4_goes_1 : cX4_goes.data.toList.drop 24 = dktX4_goes_1 := dk_seg dksX4_goes_0 24 rfl rfl
theorem dksX4_goes_2 : cX4_goes.data.toList.drop 48 = dktX4_goes_2 := dk_seg dksX4_goes_1 24 rfl rfl
theorem dksX4_goes_3 : cX4_goes.data.toList.drop 72 = dktX4_goes_3 := dk_seg dksX4_goes_2 24 rfl rfl
theorem dksX4_goes_4 : cX4_goes.data.toList.drop 96 = dktX4_goes_4 := dk_seg dksX4_goes_3 24 rfl rfl
theorem dX4_goes_0 : decode cX4_goes 0 = .ok (.aload_n 0, 1) := dk_42 (dk_at dksX4_goes_0 0 rfl rfl)
theorem iX4_goes_0 {d : Nat} {r S : List MV} {M : MH} {Q : Out → MH → Prop} {o : Option Nat} (k : MW mX4_goes d 1 (vr o :: r) (vr o :: S) M Q) : MW mX4_goes d 0 (vr o :: r) S M Q := mw_aload_n ⟨dX4_goes_0, rfl⟩ rfl k
theorem dX4_goes_1 : decode cX4_goes 1 = .ok (.getfield 53, 3) := dk_180 0 53 (dk_at dksX4_goes_0 1 rfl rfl)
theorem iX4_goes_1 {d : Nat} {L S : List MV} {M : MH} {Q : Out → MH → Prop} {a : Nat} (hs : (msh M a).1 = 6) (k : MW mX4_goes d 4 L (vi (miv M a 4) :: S) M Q) : MW mX4_goes d 1 L (vp a :: S) M Q := mw_getI (ci := 6) (k := 4) ⟨dX4_goes_1, rfl⟩ ⟨_, rfl, Nat.le_of_ble_eq_true rfl, Or.inl q210⟩ rfl hs k
theorem dX4_goes_4 : decode cX4_goes 4 = .ok (.iload_n 1, 1) := dk_27 (dk_at dksX4_goes_0 4 rfl rfl)
theorem iX4_goes_4 {d : Nat} {r S : List MV} {M : MH} {Q : Out → MH → Prop} {w0 : MV} {z : Int} (k : MW mX4_goes d 5 (w0 :: vi z :: r) (vi z :: S) M Q) : MW mX4_goes d 4 (w0 :: vi z :: r) S M Q := mw_iload_n ⟨dX4_goes_4, rfl⟩ rfl k
theorem dX4_goes_5 : decode cX4_goes 5 = .ok (.invokestatic 72, 3) := dk_184 0 72 (dk_at dksX4_goes_0 5 rfl rfl)
theorem iX4_goes_5 {d : Nat} {L S : List MV} {M : MH} {Q : Out → MH → Prop} {v1 v2 : MV} {P : Int → MH → Prop} (hM : MCi mX0_isIn d [v1, v2] M P) (k : ∀ z M', P z M' → MW mX4_goes (d + 1) 8 L (vi z :: S) M' Q) (h8 : Nat.ble (S.map mcat).sum 8 = true := by rfl) : MW mX4_goes (d + 1) 5 L (v2 :: v1 :: S) M Q := mw_calli (as := [v1, v2]) (site_S (Y' := mX0_isIn) (n := 2) ⟨dX4_goes_5, rfl⟩ (Or.inr ⟨_, lw_b q802 rfl⟩) q803 q90 wX0_isIn nX0_isIn hX0_isIn rfl) kX0_isIn (Nat.le_of_ble_eq_true h8) hM k
theorem dX4_goes_8 : decode cX4_goes 8 = .ok (.ifCond .eq 4, 3) := dk_153 0 4 (dk_at dksX4_goes_0 8 rfl rfl)
theorem iX4_goes_8 {d : Nat} {L S : List MV} {M : MH} {Q : Out → MH → Prop} {a : Int} (ha : inR a) (kt : a = 0 → MW mX4_goes d 12 L S M Q) (kf : ¬ a = 0 → MW mX4_goes d 11 L S M Q) : MW mX4_goes d 8 L (vi a :: S) M Q := mw_if_eq ⟨dX4_goes_8, rfl⟩ rfl ha kt kf
theorem dX4_goes_11 : decode cX4_goes 11 = .ok (.return_, 1) := dk_177 (dk_at dksX4_goes_0 11 rfl rfl)
theorem iX4_goes_11 {d : Nat} {L : List MV} {M : MH} {P : MH → Prop} (hq : P M) : MW mX4_goes d 11 L [] M (Rv P) := mw_retv ⟨dX4_goes_11, rfl⟩ rfl hq
theorem dX4_goes_12 : decode cX4_goes 12 = .ok (.aload_n 0, 1) := dk_42 (dk_at dksX4_goes_0 12 rfl rfl)
theorem iX4_goes_12 {d : Nat} {r S : List MV} {M : MH} {Q : Out → MH → Prop} {o : Option Nat} (k : MW mX4_goes d 13 (vr o :: r) (vr o :: S) M Q) : MW mX4_goes d 12 (vr o :: r) S M Q := mw_aload_n ⟨dX4_goes_12, rfl⟩ rfl k
theorem dX4_goes_13 : decode cX4_goes 13 = .ok (.dup, 1) := dk_89 (dk_at dksX4_goes_0 13 rfl rfl)
theorem iX4_goes_13 {d : Nat} {L S : List MV} {M : MH} {Q : Out → MH → Prop} {v : MV} (k : MW mX4_goes d 14 L (v :: v :: S) M Q) (hv : mcat v = 1 := by rfl) : MW mX4_goes d 13 L (v :: S) M Q := mw_dup ⟨dX4_goes_13, rfl⟩ hv k
theorem dX4_goes_14 : decode cX4_goes 14 = .ok (.getfield 53, 3) := dk_180 0 53 (dk_at dksX4_goes_0 14 rfl rfl)
theorem iX4_goes_14 {d : Nat} {L S : List MV} {M : MH} {Q : Out → MH → Prop} {a : Nat} (hs : (msh M a).1 = 6) (k : MW mX4_goes d 17 L (vi (miv M a 4) :: S) M Q) : MW mX4_goes d 14 L (vp a :: S) M Q := mw_getI (ci := 6) (k := 4) ⟨dX4_goes_14, rfl⟩ ⟨_, rfl, Nat.le_of_ble_eq_true rfl, Or.inl q210⟩ rfl hs k
theorem dX4_goes_17 : decode cX4_goes 17 = .ok (.iconst 1, 1) := dk_4 (dk_at dksX4_goes_0 17 rfl rfl)
theorem iX4_goes_17 {d : Nat} {L S : List MV} {M : MH} {Q : Out → MH → Prop}  (k : MW mX4_goes d 18 (L) (vi 1 :: S) M Q) : MW mX4_goes d 17 (L) S M Q := mw_iconst ⟨dX4_goes_17, rfl⟩ k
theorem dX4_goes_18 : decode cX4_goes 18 = .ok (.iload_n 1, 1) := dk_27 (dk_at dksX4_goes_0 18 rfl rfl)
theorem iX4_goes_18 {d : Nat} {r S : List MV} {M : MH} {Q : Out → MH → Prop} {w0 : MV} {z : Int} (k : MW mX4_goes d 19 (w0 :: vi z :: r) (vi z :: S) M Q) : MW mX4_goes d 18 (w0 :: vi z :: r) S M Q := mw_iload_n ⟨dX4_goes_18, rfl⟩ rfl k
theorem dX4_goes_19 : decode cX4_goes 19 = .ok (.ishl, 1) := dk_120 (dk_at dksX4_goes_0 19 rfl rfl)
theorem iX4_goes_19 {d : Nat} {L S : List MV} {M : MH} {Q : Out → MH → Prop} {a b : Int} (k : MW mX4_goes d 20 (L) (vi (bshl a b) :: S) M Q) : MW mX4_goes d 19 (L) (vi b :: vi a :: S) M Q := mw_ishl ⟨dX4_goes_19, rfl⟩ k
theorem dX4_goes_20 : decode cX4_goes 20 = .ok (.ior, 1) := dk_128 (dk_at dksX4_goes_0 20 rfl rfl)
theorem iX4_goes_20 {d : Nat} {L S : List MV} {M : MH} {Q : Out → MH → Prop} {a b : Int} (k : MW mX4_goes d 21 (L) (vi (bor a b) :: S) M Q) : MW mX4_goes d 20 (L) (vi b :: vi a :: S) M Q := mw_ior ⟨dX4_goes_20, rfl⟩ k
theorem dX4_goes_21 : decode cX4_goes 21 = .ok (.putfield 53, 3) := dk_181 0 53 (dk_at dksX4_goes_0 21 rfl rfl)
theorem iX4_goes_21 {d : Nat} {L S : List MV} {M : MH} {Q : Out → MH → Prop} {a : Nat} {z : Int} (hs : (msh M a).1 = 6) (k : MW mX4_goes d 24 L S (wI M a 4 z) Q) : MW mX4_goes d 21 L (vi z :: vp a :: S) M Q := mw_putI (ci := 6) (k := 4) ⟨dX4_goes_21, rfl⟩ ⟨_, rfl, Nat.le_of_ble_eq_true rfl, Or.inl ⟨rfl, Or.inl q210⟩⟩ rfl hs k
theorem dX4_goes_24 : decode cX4_goes 24 = .ok (.aload_n 0, 1) := dk_42 (dk_at dksX4_goes_1 0 rfl rfl)
theorem iX4_goes_24 {d : Nat} {r S : List MV} {M : MH} {Q : Out → MH → Prop} {o : Option Nat} (k : MW mX4_goes d 25 (vr o :: r) (vr o :: S) M Q) : MW mX4_goes d 24 (vr o :: r) S M Q := mw_aload_n ⟨dX4_goes_24, rfl⟩ rfl k
theorem dX4_goes_25 : decode cX4_goes 25 = .ok (.getfield 19, 3) := dk_180 0 19 (dk_at dksX4_goes_1 1 rfl rfl)
theorem iX4_goes_25 {d : Nat} {L S : List MV} {M : MH} {Q : Out → MH → Prop} {a : Nat} {o : Option Nat} (hs : (msh M a).1 = 6) (hr : mrv M a 1 = o) (k : MW mX4_goes d 28 L (vr o :: S) M Q) : MW mX4_goes d 25 L (vp a :: S) M Q := mw_getR (ci := 6) (k := 1) ⟨dX4_goes_25, rfl⟩ ⟨_, rfl, Nat.le_of_ble_eq_true rfl, Or.inl q203⟩ rfl hs hr k
theorem dX4_goes_28 : decode cX4_goes 28 = .ok (.iload_n 1, 1) := dk_27 (dk_at dksX4_goes_1 4 rfl rfl)
theorem iX4_goes_28 {d : Nat} {r S : List MV} {M : MH} {Q : Out → MH → Prop} {w0 : MV} {z : Int} (k : MW mX4_goes d 29 (w0 :: vi z :: r) (vi z :: S) M Q) : MW mX4_goes d 28 (w0 :: vi z :: r) S M Q := mw_iload_n ⟨dX4_goes_28, rfl⟩ rfl k
theorem dX4_goes_29 : decode cX4_goes 29 = .ok (.iload_n 2, 1) := dk_28 (dk_at dksX4_goes_1 5 rfl rfl)
theorem iX4_goes_29 {d : Nat} {r S : List MV} {M : MH} {Q : Out → MH → Prop} {w0 w1 : MV} {z : Int} (k : MW mX4_goes d 30 (w0 :: w1 :: vi z :: r) (vi z :: S) M Q) : MW mX4_goes d 29 (w0 :: w1 :: vi z :: r) S M Q := mw_iload_n ⟨dX4_goes_29, rfl⟩ rfl k
theorem dX4_goes_30 : decode cX4_goes 30 = .ok (.iastore, 1) := dk_79 (dk_at dksX4_goes_1 6 rfl rfl)
theorem iX4_goes_30 {d : Nat} {L S : List MV} {M : MH} {Q : Out → MH → Prop} {a n : Nat} {z v : Int} (hs : msh M a = (100, n)) (hi : 0 ≤ z ∧ z < n) (k : MW mX4_goes d 31 L S (wI M a z.toNat v) Q) (hn : Nat.ble n 2147483647 = true := by rfl) : MW mX4_goes d 30 L (vi v :: vi z :: vp a :: S) M Q := mw_iastore ⟨dX4_goes_30, rfl⟩ hs (Nat.le_of_ble_eq_true hn) hi k
theorem dX4_goes_31 : decode cX4_goes 31 = .ok (.iconst 0, 1) := dk_3 (dk_at dksX4_goes_1 7 rfl rfl)
theorem iX4_goes_31 {d : Nat} {L S : List MV} {M : MH} {Q : Out → MH → Prop}  (k : MW mX4_goes d 32 (L) (vi 0 :: S) M Q) : MW mX4_goes d 31 (L) S M Q := mw_iconst ⟨dX4_goes_31, rfl⟩ k
theorem dX4_goes_32 : decode cX4_goes 32 = .ok (.istore_n 3, 1) := dk_62 (dk_at dksX4_goes_1 8 rfl rfl)
theorem iX4_goes_32 {d : Nat} {r S : List MV} {M : MH} {Q : Out → MH → Prop} {w0 w1 w2 : MV} {z : Int} {v : MV} (k : MW mX4_goes d 33 (w0 :: w1 :: w2 :: vi z :: r) S M Q) (hok : okSt (w0 :: w1 :: w2 :: v :: r) 3 = true := by rfl) : MW mX4_goes d 32 (w0 :: w1 :: w2 :: v :: r) (vi z :: S) M Q := mw_istore_n (i := 3) ⟨dX4_goes_32, rfl⟩ rfl (Nat.le_of_ble_eq_true rfl) hok k
theorem dX4_goes_33 : decode cX4_goes 33 = .ok (.iload_n 3, 1) := dk_29 (dk_at dksX4_goes_1 9 rfl rfl)
theorem iX4_goes_33 {d : Nat} {r S : List MV} {M : MH} {Q : Out → MH → Prop} {w0 w1 w2 : MV} {z : Int} (k : MW mX4_goes d 34 (w0 :: w1 :: w2 :: vi z :: r) (vi z :: S) M Q) : MW mX4_goes d 33 (w0 :: w1 :: w2 :: vi z :: r) S M Q := mw_iload_n ⟨dX4_goes_33, rfl⟩ rfl k
theorem dX4_goes_34 : decode cX4_goes 34 = .ok (.aload_n 0, 1) := dk_42 (dk_at dksX4_goes_1 10 rfl rfl)
theorem iX4_goes_34 {d : Nat} {r S : List MV} {M : MH} {Q : Out → MH → Prop} {o : Option Nat} (k : MW mX4_goes d 35 (vr o :: r) (vr o :: S) M Q) : MW mX4_goes d 34 (vr o :: r) S M Q := mw_aload_n ⟨dX4_goes_34, rfl⟩ rfl k
theorem dX4_goes_35 : decode cX4_goes 35 = .ok (.getfield 3, 3) := dk_180 0 3 (dk_at dksX4_goes_1 11 rfl rfl)
theorem iX4_goes_35 {d : Nat} {L S : List MV} {M : MH} {Q : Out → MH → Prop} {a : Nat} {o : Option Nat} (hs : (msh M a).1 = 6) (hr : mrv M a 5 = o) (k : MW mX4_goes d 38 L (vr o :: S) M Q) : MW mX4_goes d 35 L (vp a :: S) M Q := mw_getR (ci := 6) (k := 5) ⟨dX4_goes_35, rfl⟩ ⟨_, rfl, Nat.le_of_ble_eq_true rfl, Or.inl q211⟩ rfl hs hr k
theorem dX4_goes_38 : decode cX4_goes 38 = .ok (.invokevirtual 46, 3) := dk_182 0 46 (dk_at dksX4_goes_1 14 rfl rfl)
theorem iX4_goes_38 {d : Nat} {L S : List MV} {M : MH} {Q : Out → MH → Prop} {b : Nat} {P : Int → MH → Prop} (hs : (msh M b).1 = 0) (hM : MCi mX0_people d [vp b] M P) (k : ∀ z M', P z M' → MW mX4_goes (d + 1) 41 L (vi z :: S) M' Q) (h8 : Nat.ble (S.map mcat).sum 8 = true := by rfl) : MW mX4_goes (d + 1) 38 L (vp b :: S) M Q := mw_calli (as := [vp b]) (site_V (Y' := mX0_people) (n := 0) ⟨dX4_goes_38, rfl⟩ (Or.inr ⟨_, lw_b q781 rfl⟩) q678 qs10 wX0_people nX0_people hX0_people (cls_of (ci := 0) rfl hs) rfl) kX0_people (Nat.le_of_ble_eq_true h8) hM k
theorem dX4_goes_41 : decode cX4_goes 41 = .ok (.if_icmp .ge 76, 3) := dk_162 0 76 (dk_at dksX4_goes_1 17 rfl rfl)
theorem iX4_goes_41 {d : Nat} {L S : List MV} {M : MH} {Q : Out → MH → Prop} {a b : Int} (ha : inR a) (hb : inR b) (kt : b ≤ a → MW mX4_goes d 117 L S M Q) (kf : ¬ b ≤ a → MW mX4_goes d 44 L S M Q) : MW mX4_goes d 41 L (vi b :: vi a :: S) M Q := mw_icmp_ge ⟨dX4_goes_41, rfl⟩ rfl ha hb kt kf
theorem dX4_goes_44 : decode cX4_goes 44 = .ok (.aload_n 0, 1) := dk_42 (dk_at dksX4_goes_1 20 rfl rfl)
theorem iX4_goes_44 {d : Nat} {r S : List MV} {M : MH} {Q : Out → MH → Prop} {o : Option Nat} (k : MW mX4_goes d 45 (vr o :: r) (vr o :: S) M Q) : MW mX4_goes d 44 (vr o :: r) S M Q := mw_aload_n ⟨dX4_goes_44, rfl⟩ rfl k
theorem dX4_goes_45 : decode cX4_goes 45 = .ok (.getfield 3, 3) := dk_180 0 3 (dk_at dksX4_goes_1 21 rfl rfl)
theorem iX4_goes_45 {d : Nat} {L S : List MV} {M : MH} {Q : Out → MH → Prop} {a : Nat} {o : Option Nat} (hs : (msh M a).1 = 6) (hr : mrv M a 5 = o) (k : MW mX4_goes d 48 L (vr o :: S) M Q) : MW mX4_goes d 45 L (vp a :: S) M Q := mw_getR (ci := 6) (k := 5) ⟨dX4_goes_45, rfl⟩ ⟨_, rfl, Nat.le_of_ble_eq_true rfl, Or.inl q211⟩ rfl hs hr k
theorem dX4_goes_48 : decode cX4_goes 48 = .ok (.getfield 76, 3) := dk_180 0 76 (dk_at dksX4_goes_2 0 rfl rfl)
theorem iX4_goes_48 {d : Nat} {L S : List MV} {M : MH} {Q : Out → MH → Prop} {a : Nat} {o : Option Nat} (hs : (msh M a).1 = 0) (hr : mrv M a 4 = o) (k : MW mX4_goes d 51 L (vr o :: S) M Q) : MW mX4_goes d 48 L (vp a :: S) M Q := mw_getR (ci := 0) (k := 4) ⟨dX4_goes_48, rfl⟩ ⟨_, rfl, Nat.le_of_ble_eq_true rfl, Or.inr (Or.inr ⟨_, lw_b q266 rfl⟩)⟩ rfl hs hr k
theorem dX4_goes_51 : decode cX4_goes 51 = .ok (.iconst 2, 1) := dk_5 (dk_at dksX4_goes_2 3 rfl rfl)
theorem iX4_goes_51 {d : Nat} {L S : List MV} {M : MH} {Q : Out → MH → Prop}  (k : MW mX4_goes d 52 (L) (vi 2 :: S) M Q) : MW mX4_goes d 51 (L) S M Q := mw_iconst ⟨dX4_goes_51, rfl⟩ k
theorem dX4_goes_52 : decode cX4_goes 52 = .ok (.iaload, 1) := dk_46 (dk_at dksX4_goes_2 4 rfl rfl)
theorem iX4_goes_52 {d : Nat} {L S : List MV} {M : MH} {Q : Out → MH → Prop} {a n : Nat} {z : Int} (hs : msh M a = (100, n)) (hi : 0 ≤ z ∧ z < n) (k : MW mX4_goes d 53 L (vi (miv M a z.toNat) :: S) M Q) (hn : Nat.ble n 2147483647 = true := by rfl) : MW mX4_goes d 52 L (vi z :: vp a :: S) M Q := mw_iaload ⟨dX4_goes_52, rfl⟩ hs (Nat.le_of_ble_eq_true hn) hi k
theorem dX4_goes_53 : decode cX4_goes 53 = .ok (.ifCond .eq 12, 3) := dk_153 0 12 (dk_at dksX4_goes_2 5 rfl rfl)
theorem iX4_goes_53 {d : Nat} {L S : List MV} {M : MH} {Q : Out → MH → Prop} {a : Int} (ha : inR a) (kt : a = 0 → MW mX4_goes d 65 L S M Q) (kf : ¬ a = 0 → MW mX4_goes d 56 L S M Q) : MW mX4_goes d 53 L (vi a :: S) M Q := mw_if_eq ⟨dX4_goes_53, rfl⟩ rfl ha kt kf
theorem dX4_goes_56 : decode cX4_goes 56 = .ok (.aload_n 0, 1) := dk_42 (dk_at dksX4_goes_2 8 rfl rfl)
theorem iX4_goes_56 {d : Nat} {r S : List MV} {M : MH} {Q : Out → MH → Prop} {o : Option Nat} (k : MW mX4_goes d 57 (vr o :: r) (vr o :: S) M Q) : MW mX4_goes d 56 (vr o :: r) S M Q := mw_aload_n ⟨dX4_goes_56, rfl⟩ rfl k
theorem dX4_goes_57 : decode cX4_goes 57 = .ok (.getfield 25, 3) := dk_180 0 25 (dk_at dksX4_goes_2 9 rfl rfl)
theorem iX4_goes_57 {d : Nat} {L S : List MV} {M : MH} {Q : Out → MH → Prop} {a : Nat} {o : Option Nat} (hs : (msh M a).1 = 6) (hr : mrv M a 3 = o) (k : MW mX4_goes d 60 L (vr o :: S) M Q) : MW mX4_goes d 57 L (vp a :: S) M Q := mw_getR (ci := 6) (k := 3) ⟨dX4_goes_57, rfl⟩ ⟨_, rfl, Nat.le_of_ble_eq_true rfl, Or.inl q208⟩ rfl hs hr k
theorem dX4_goes_60 : decode cX4_goes 60 = .ok (.iload_n 3, 1) := dk_29 (dk_at dksX4_goes_2 12 rfl rfl)
theorem iX4_goes_60 {d : Nat} {r S : List MV} {M : MH} {Q : Out → MH → Prop} {w0 w1 w2 : MV} {z : Int} (k : MW mX4_goes d 61 (w0 :: w1 :: w2 :: vi z :: r) (vi z :: S) M Q) : MW mX4_goes d 60 (w0 :: w1 :: w2 :: vi z :: r) S M Q := mw_iload_n ⟨dX4_goes_60, rfl⟩ rfl k
theorem dX4_goes_61 : decode cX4_goes 61 = .ok (.iaload, 1) := dk_46 (dk_at dksX4_goes_2 13 rfl rfl)
theorem iX4_goes_61 {d : Nat} {L S : List MV} {M : MH} {Q : Out → MH → Prop} {a n : Nat} {z : Int} (hs : msh M a = (100, n)) (hi : 0 ≤ z ∧ z < n) (k : MW mX4_goes d 62 L (vi (miv M a z.toNat) :: S) M Q) (hn : Nat.ble n 2147483647 = true := by rfl) : MW mX4_goes d 61 L (vi z :: vp a :: S) M Q := mw_iaload ⟨dX4_goes_61, rfl⟩ hs (Nat.le_of_ble_eq_true hn) hi k
theorem dX4_goes_62 : decode cX4_goes 62 = .ok (.ifCond .ne 7, 3) := dk_154 0 7 (dk_at dksX4_goes_2 14 rfl rfl)
theorem iX4_goes_62 {d : Nat} {L S : List MV} {M : MH} {Q : Out → MH → Prop} {a : Int} (ha : inR a) (kt : a ≠ 0 → MW mX4_goes d 69 L S M Q) (kf : a = 0 → MW mX4_goes d 65 L S M Q) : MW mX4_goes d 62 L (vi a :: S) M Q := mw_if_ne ⟨dX4_goes_62, rfl⟩ rfl ha kt kf
theorem dX4_goes_65 : decode cX4_goes 65 = .ok (.iconst 1, 1) := dk_4 (dk_at dksX4_goes_2 17 rfl rfl)
theorem iX4_goes_65 {d : Nat} {L S : List MV} {M : MH} {Q : Out → MH → Prop}  (k : MW mX4_goes d 66 (L) (vi 1 :: S) M Q) : MW mX4_goes d 65 (L) S M Q := mw_iconst ⟨dX4_goes_65, rfl⟩ k
theorem dX4_goes_66 : decode cX4_goes 66 = .ok (.goto 4, 3) := dk_167 0 4 (dk_at dksX4_goes_2 18 rfl rfl)
theorem iX4_goes_66 {d : Nat} {L S : List MV} {M : MH} {Q : Out → MH → Prop}  (k : MW mX4_goes d 70 (L) S M Q) : MW mX4_goes d 66 (L) S M Q := mw_goto ⟨dX4_goes_66, rfl⟩ rfl k
theorem dX4_goes_69 : decode cX4_goes 69 = .ok (.iconst 0, 1) := dk_3 (dk_at dksX4_goes_2 21 rfl rfl)
theorem iX4_goes_69 {d : Nat} {L S : List MV} {M : MH} {Q : Out → MH → Prop}  (k : MW mX4_goes d 70 (L) (vi 0 :: S) M Q) : MW mX4_goes d 69 (L) S M Q := mw_iconst ⟨dX4_goes_69, rfl⟩ k
theorem dX4_goes_70 : decode cX4_goes 70 = .ok (.istore 4, 2) := dk_54 4 (dk_at dksX4_goes_2 22 rfl rfl)
theorem iX4_goes_70 {d : Nat} {r S : List MV} {M : MH} {Q : Out → MH → Prop} {w0 w1 w2 w3 : MV} {z : Int} {v : MV} (k : MW mX4_goes d 72 (w0 :: w1 :: w2 :: w3 :: vi z :: r) S M Q) (hok : okSt (w0 :: w1 :: w2 :: w3 :: v :: r) 4 = true := by rfl) : MW mX4_goes d 70 (w0 :: w1 :: w2 :: w3 :: v :: r) (vi z :: S) M Q := mw_istore (i := 4) ⟨dX4_goes_70, rfl⟩ (Nat.le_of_ble_eq_true rfl) hok k
theorem dX4_goes_72 : decode cX4_goes 72 = .ok (.aload_n 0, 1) := dk_42 (dk_at dksX4_goes_3 0 rfl rfl)
theorem iX4_goes_72 {d : Nat} {r S : List MV} {M : MH} {Q : Out → MH → Prop} {o : Option Nat} (k : MW mX4_goes d 73 (vr o :: r) (vr o :: S) M Q) : MW mX4_goes d 72 (vr o :: r) S M Q := mw_aload_n ⟨dX4_goes_72, rfl⟩ rfl k
theorem dX4_goes_73 : decode cX4_goes 73 = .ok (.getfield 3, 3) := dk_180 0 3 (dk_at dksX4_goes_3 1 rfl rfl)
theorem iX4_goes_73 {d : Nat} {L S : List MV} {M : MH} {Q : Out → MH → Prop} {a : Nat} {o : Option Nat} (hs : (msh M a).1 = 6) (hr : mrv M a 5 = o) (k : MW mX4_goes d 76 L (vr o :: S) M Q) : MW mX4_goes d 73 L (vp a :: S) M Q := mw_getR (ci := 6) (k := 5) ⟨dX4_goes_73, rfl⟩ ⟨_, rfl, Nat.le_of_ble_eq_true rfl, Or.inl q211⟩ rfl hs hr k
theorem dX4_goes_76 : decode cX4_goes 76 = .ok (.getfield 76, 3) := dk_180 0 76 (dk_at dksX4_goes_3 4 rfl rfl)
theorem iX4_goes_76 {d : Nat} {L S : List MV} {M : MH} {Q : Out → MH → Prop} {a : Nat} {o : Option Nat} (hs : (msh M a).1 = 0) (hr : mrv M a 4 = o) (k : MW mX4_goes d 79 L (vr o :: S) M Q) : MW mX4_goes d 76 L (vp a :: S) M Q := mw_getR (ci := 0) (k := 4) ⟨dX4_goes_76, rfl⟩ ⟨_, rfl, Nat.le_of_ble_eq_true rfl, Or.inr (Or.inr ⟨_, lw_b q266 rfl⟩)⟩ rfl hs hr k
theorem dX4_goes_79 : decode cX4_goes 79 = .ok (.iconst 0, 1) := dk_3 (dk_at dksX4_goes_3 7 rfl rfl)
theorem iX4_goes_79 {d : Nat} {L S : List MV} {M : MH} {Q : Out → MH → Prop}  (k : MW mX4_goes d 80 (L) (vi 0 :: S) M Q) : MW mX4_goes d 79 (L) S M Q := mw_iconst ⟨dX4_goes_79, rfl⟩ k
theorem dX4_goes_80 : decode cX4_goes 80 = .ok (.iaload, 1) := dk_46 (dk_at dksX4_goes_3 8 rfl rfl)
theorem iX4_goes_80 {d : Nat} {L S : List MV} {M : MH} {Q : Out → MH → Prop} {a n : Nat} {z : Int} (hs : msh M a = (100, n)) (hi : 0 ≤ z ∧ z < n) (k : MW mX4_goes d 81 L (vi (miv M a z.toNat) :: S) M Q) (hn : Nat.ble n 2147483647 = true := by rfl) : MW mX4_goes d 80 L (vi z :: vp a :: S) M Q := mw_iaload ⟨dX4_goes_80, rfl⟩ hs (Nat.le_of_ble_eq_true hn) hi k
theorem dX4_goes_81 : decode cX4_goes 81 = .ok (.iconst 1, 1) := dk_4 (dk_at dksX4_goes_3 9 rfl rfl)
theorem iX4_goes_81 {d : Nat} {L S : List MV} {M : MH} {Q : Out → MH → Prop}  (k : MW mX4_goes d 82 (L) (vi 1 :: S) M Q) : MW mX4_goes d 81 (L) S M Q := mw_iconst ⟨dX4_goes_81, rfl⟩ k
theorem dX4_goes_82 : decode cX4_goes 82 = .ok (.if_icmp .ne 29, 3) := dk_160 0 29 (dk_at dksX4_goes_3 10 rfl rfl)
theorem iX4_goes_82 {d : Nat} {L S : List MV} {M : MH} {Q : Out → MH → Prop} {a b : Int} (ha : inR a) (hb : inR b) (kt : a ≠ b → MW mX4_goes d 111 L S M Q) (kf : a = b → MW mX4_goes d 85 L S M Q) : MW mX4_goes d 82 L (vi b :: vi a :: S) M Q := mw_icmp_ne ⟨dX4_goes_82, rfl⟩ rfl ha hb kt kf
theorem dX4_goes_85 : decode cX4_goes 85 = .ok (.aload_n 0, 1) := dk_42 (dk_at dksX4_goes_3 13 rfl rfl)
theorem iX4_goes_85 {d : Nat} {r S : List MV} {M : MH} {Q : Out → MH → Prop} {o : Option Nat} (k : MW mX4_goes d 86 (vr o :: r) (vr o :: S) M Q) : MW mX4_goes d 85 (vr o :: r) S M Q := mw_aload_n ⟨dX4_goes_85, rfl⟩ rfl k
theorem dX4_goes_86 : decode cX4_goes 86 = .ok (.getfield 15, 3) := dk_180 0 15 (dk_at dksX4_goes_3 14 rfl rfl)
theorem iX4_goes_86 {d : Nat} {L S : List MV} {M : MH} {Q : Out → MH → Prop} {a : Nat} {o : Option Nat} (hs : (msh M a).1 = 6) (hr : mrv M a 0 = o) (k : MW mX4_goes d 89 L (vr o :: S) M Q) : MW mX4_goes d 86 L (vp a :: S) M Q := mw_getR (ci := 6) (k := 0) ⟨dX4_goes_86, rfl⟩ ⟨_, rfl, Nat.le_of_ble_eq_true rfl, Or.inl q201⟩ rfl hs hr k
theorem dX4_goes_89 : decode cX4_goes 89 = .ok (.iload_n 3, 1) := dk_29 (dk_at dksX4_goes_3 17 rfl rfl)
theorem iX4_goes_89 {d : Nat} {r S : List MV} {M : MH} {Q : Out → MH → Prop} {w0 w1 w2 : MV} {z : Int} (k : MW mX4_goes d 90 (w0 :: w1 :: w2 :: vi z :: r) (vi z :: S) M Q) : MW mX4_goes d 89 (w0 :: w1 :: w2 :: vi z :: r) S M Q := mw_iload_n ⟨dX4_goes_89, rfl⟩ rfl k
theorem dX4_goes_90 : decode cX4_goes 90 = .ok (.iaload, 1) := dk_46 (dk_at dksX4_goes_3 18 rfl rfl)
theorem iX4_goes_90 {d : Nat} {L S : List MV} {M : MH} {Q : Out → MH → Prop} {a n : Nat} {z : Int} (hs : msh M a = (100, n)) (hi : 0 ≤ z ∧ z < n) (k : MW mX4_goes d 91 L (vi (miv M a z.toNat) :: S) M Q) (hn : Nat.ble n 2147483647 = true := by rfl) : MW mX4_goes d 90 L (vi z :: vp a :: S) M Q := mw_iaload ⟨dX4_goes_90, rfl⟩ hs (Nat.le_of_ble_eq_true hn) hi k
theorem dX4_goes_91 : decode cX4_goes 91 = .ok (.iload_n 1, 1) := dk_27 (dk_at dksX4_goes_3 19 rfl rfl)
theorem iX4_goes_91 {d : Nat} {r S : List MV} {M : MH} {Q : Out → MH → Prop} {w0 : MV} {z : Int} (k : MW mX4_goes d 92 (w0 :: vi z :: r) (vi z :: S) M Q) : MW mX4_goes d 91 (w0 :: vi z :: r) S M Q := mw_iload_n ⟨dX4_goes_91, rfl⟩ rfl k
theorem dX4_goes_92 : decode cX4_goes 92 = .ok (.if_icmp .ne 19, 3) := dk_160 0 19 (dk_at dksX4_goes_3 20 rfl rfl)
theorem iX4_goes_92 {d : Nat} {L S : List MV} {M : MH} {Q : Out → MH → Prop} {a b : Int} (ha : inR a) (hb : inR b) (kt : a ≠ b → MW mX4_goes d 111 L S M Q) (kf : a = b → MW mX4_goes d 95 L S M Q) : MW mX4_goes d 92 L (vi b :: vi a :: S) M Q := mw_icmp_ne ⟨dX4_goes_92, rfl⟩ rfl ha hb kt kf
theorem dX4_goes_95 : decode cX4_goes 95 = .ok (.iload_n 3, 1) := dk_29 (dk_at dksX4_goes_3 23 rfl rfl)
theorem iX4_goes_95 {d : Nat} {r S : List MV} {M : MH} {Q : Out → MH → Prop} {w0 w1 w2 : MV} {z : Int} (k : MW mX4_goes d 96 (w0 :: w1 :: w2 :: vi z :: r) (vi z :: S) M Q) : MW mX4_goes d 95 (w0 :: w1 :: w2 :: vi z :: r) S M Q := mw_iload_n ⟨dX4_goes_95, rfl⟩ rfl k
theorem dX4_goes_96 : decode cX4_goes 96 = .ok (.iload_n 2, 1) := dk_28 (dk_at dksX4_goes_4 0 rfl rfl)
theorem iX4_goes_96 {d : Nat} {r S : List MV} {M : MH} {Q : Out → MH → Prop} {w0 w1 : MV} {z : Int} (k : MW mX4_goes d 97 (w0 :: w1 :: vi z :: r) (vi z :: S) M Q) : MW mX4_goes d 96 (w0 :: w1 :: vi z :: r) S M Q := mw_iload_n ⟨dX4_goes_96, rfl⟩ rfl k
theorem dX4_goes_97 : decode cX4_goes 97 = .ok (.if_icmp .eq 14, 3) := dk_159 0 14 (dk_at dksX4_goes_4 1 rfl rfl)
theorem iX4_goes_97 {d : Nat} {L S : List MV} {M : MH} {Q : Out → MH → Prop} {a b : Int} (ha : inR a) (hb : inR b) (kt : a = b → MW mX4_goes d 111 L S M Q) (kf : ¬ a = b → MW mX4_goes d 100 L S M Q) : MW mX4_goes d 97 L (vi b :: vi a :: S) M Q := mw_icmp_eq ⟨dX4_goes_97, rfl⟩ rfl ha hb kt kf
theorem dX4_goes_100 : decode cX4_goes 100 = .ok (.iload 4, 2) := dk_21 4 (dk_at dksX4_goes_4 4 rfl rfl)
theorem iX4_goes_100 {d : Nat} {r S : List MV} {M : MH} {Q : Out → MH → Prop} {w0 w1 w2 w3 : MV} {z : Int} (k : MW mX4_goes d 102 (w0 :: w1 :: w2 :: w3 :: vi z :: r) (vi z :: S) M Q) : MW mX4_goes d 100 (w0 :: w1 :: w2 :: w3 :: vi z :: r) S M Q := mw_iload ⟨dX4_goes_100, rfl⟩ rfl k
theorem dX4_goes_102 : decode cX4_goes 102 = .ok (.ifCond .eq 9, 3) := dk_153 0 9 (dk_at dksX4_goes_4 6 rfl rfl)
theorem iX4_goes_102 {d : Nat} {L S : List MV} {M : MH} {Q : Out → MH → Prop} {a : Int} (ha : inR a) (kt : a = 0 → MW mX4_goes d 111 L S M Q) (kf : ¬ a = 0 → MW mX4_goes d 105 L S M Q) : MW mX4_goes d 102 L (vi a :: S) M Q := mw_if_eq ⟨dX4_goes_102, rfl⟩ rfl ha kt kf
theorem dX4_goes_105 : decode cX4_goes 105 = .ok (.aload_n 0, 1) := dk_42 (dk_at dksX4_goes_4 9 rfl rfl)
theorem iX4_goes_105 {d : Nat} {r S : List MV} {M : MH} {Q : Out → MH → Prop} {o : Option Nat} (k : MW mX4_goes d 106 (vr o :: r) (vr o :: S) M Q) : MW mX4_goes d 105 (vr o :: r) S M Q := mw_aload_n ⟨dX4_goes_105, rfl⟩ rfl k
theorem dX4_goes_106 : decode cX4_goes 106 = .ok (.iload_n 3, 1) := dk_29 (dk_at dksX4_goes_4 10 rfl rfl)
theorem iX4_goes_106 {d : Nat} {r S : List MV} {M : MH} {Q : Out → MH → Prop} {w0 w1 w2 : MV} {z : Int} (k : MW mX4_goes d 107 (w0 :: w1 :: w2 :: vi z :: r) (vi z :: S) M Q) : MW mX4_goes d 106 (w0 :: w1 :: w2 :: vi z :: r) S M Q := mw_iload_n ⟨dX4_goes_106, rfl⟩ rfl k
theorem dX4_goes_107 : decode cX4_goes 107 = .ok (.iload_n 2, 1) := dk_28 (dk_at dksX4_goes_4 11 rfl rfl)
theorem iX4_goes_107 {d : Nat} {r S : List MV} {M : MH} {Q : Out → MH → Prop} {w0 w1 : MV} {z : Int} (k : MW mX4_goes d 108 (w0 :: w1 :: vi z :: r) (vi z :: S) M Q) : MW mX4_goes d 107 (w0 :: w1 :: vi z :: r) S M Q := mw_iload_n ⟨dX4_goes_107, rfl⟩ rfl k
theorem dX4_goes_108 : decode cX4_goes 108 = .ok (.invokevirtual 79, 3) := dk_182 0 79 (dk_at dksX4_goes_4 12 rfl rfl)
theorem iX4_goes_108 {d : Nat} {L S : List MV} {M : MH} {Q : Out → MH → Prop} {v1 v2 : MV} {b : Nat} {P : MH → Prop} (hs : (msh M b).1 = 6) (hM : MCv mX4_takes d [vp b, v1, v2] M P) (k : ∀ M', P M' → MW mX4_goes (d + 1) 111 L S M' Q) (h8 : Nat.ble (S.map mcat).sum 8 = true := by rfl) : MW mX4_goes (d + 1) 108 L (v2 :: v1 :: vp b :: S) M Q := mw_callv (as := [vp b, v1, v2]) (site_V (Y' := mX4_takes) (n := 2) ⟨dX4_goes_108, rfl⟩ (Or.inl q805) q807 qs21 wX4_takes nX4_takes hX4_takes (cls_of (ci := 6) rfl hs) rfl) kX4_takes (Nat.le_of_ble_eq_true h8) hM k
theorem dX4_goes_111 : decode cX4_goes 111 = .ok (.iinc 3 1, 3) := dk_132 3 1 (dk_at dksX4_goes_4 15 rfl rfl)
theorem iX4_goes_111 {d : Nat} {r S : List MV} {M : MH} {Q : Out → MH → Prop} {w0 w1 w2 : MV} {z : Int} (k : MW mX4_goes d 114 (w0 :: w1 :: w2 :: vi (z + 1) :: r) S M Q) (hok : okSt (w0 :: w1 :: w2 :: vi z :: r) 3 = true := by rfl) : MW mX4_goes d 111 (w0 :: w1 :: w2 :: vi z :: r) S M Q := mw_iinc (i := 3) ⟨dX4_goes_111, rfl⟩ rfl (Nat.le_of_ble_eq_true rfl) hok k
theorem dX4_goes_114 : decode cX4_goes 114 = .ok (.goto (-81), 3) := dk_167 255 175 (dk_at dksX4_goes_4 18 rfl rfl)
theorem iX4_goes_114 {d : Nat} {L S : List MV} {M : MH} {Q : Out → MH → Prop}  (k : MW mX4_goes d 33 (L) S M Q) : MW mX4_goes d 114 (L) S M Q := mw_goto ⟨dX4_goes_114, rfl⟩ rfl k
theorem dX4_goes_117 : decode cX4_goes 117 = .ok (.return_, 1) := dk_177 (dk_at dksX4_goes_4 21 rfl rfl)
theorem iX4_goes_117 {d : Nat} {L : List MV} {M : MH} {P : MH → Prop} (hq : P M) : MW mX4_goes d 117 L [] M (Rv P) := mw_retv ⟨dX4_goes_117, rfl⟩ rfl hq
/-! X4_takes -/
def dkwX4_takes_2 : List UInt8 := [46, 27, 160, 0, 9, 42, 29, 28, 182, 0, 63, 132, 3, 1, 167, 255, 213, 177]
abbrev dktX4_takes_2 : List UInt8 := dkwX4_takes_2 ++ []
def dkwX4_takes_1 : List UInt8 := [182, 0, 28, 162, 0, 38, 42, 180, 0, 3, 180, 0, 76, 4, 46, 4, 160, 0, 19, 42, 180, 0, 19, 29]
abbrev dktX4_takes_1 : List UInt8 := dkwX4_takes_1 ++ dktX4_takes_2
def dkwX4_takes_0 : List UInt8 := [42, 180, 0, 22, 27, 28, 79, 42, 180, 0, 25, 27, 92, 46, 4, 96, 79, 3, 62, 29, 42, 180, 0, 3]
abbrev dktX4_takes_0 : List UInt8 := dkwX4_takes_0 ++ dktX4_takes_1
theorem dksX4_takes_0 : cX4_takes.data.toList.drop 0 = dktX4_takes_0 := by decide +kernel
theorem dksX4_takes_1 : cX4_takes.data.toList.drop 24 = dktX4_takes_1 := dk_seg dksX4_takes_0 24 rfl rfl
theorem dksX4_takes_2 : cX4_takes.data.toList.drop 48 = dktX4_takes_2 := dk_seg dksX4_takes_1 24 rfl rfl
theorem dX4_takes_0 : decode cX4_takes 0 = .ok (.aload_n 0, 1) := dk_42 (dk_at dksX4_takes_0 0 rfl rfl)
theorem iX4_takes_0 {d : Nat} {r S : List MV} {M : MH} {Q : Out → MH → Prop} {o : Option Nat} (k : MW mX4_takes d 1 (vr o :: r) (vr o :: S) M Q) : MW mX4_takes d 0 (vr o :: r) S M Q := mw_aload_n ⟨dX4_takes_0, rfl⟩ rfl k
theorem dX4_takes_1 : decode cX4_takes 1 = .ok (.getfield 22, 3) := dk_180 0 22 (dk_at dksX4_takes_0 1 rfl rfl)
theorem iX4_takes_1 {d : Nat} {L S : List MV} {M : MH} {Q : Out → MH → Prop} {a : Nat} {o : Option Nat} (hs : (msh M a).1 = 6) (hr : mrv M a 2 = o) (k : MW mX4_takes d 4 L (vr o :: S) M Q) : MW mX4_takes d 1 L (vp a :: S) M Q := mw_getR (ci := 6) (k := 2) ⟨dX4_takes_1, rfl⟩ ⟨_, rfl, Nat.le_of_ble_eq_true rfl, Or.inl q206⟩ rfl hs hr k
theorem dX4_takes_4 : decode cX4_takes 4 = .ok (.iload_n 1, 1) := dk_27 (dk_at dksX4_takes_0 4 rfl rfl)
theorem iX4_takes_4 {d : Nat} {r S : List MV} {M : MH} {Q : Out → MH → Prop} {w0 : MV} {z : Int} (k : MW mX4_takes d 5 (w0 :: vi z :: r) (vi z :: S) M Q) : MW mX4_takes d 4 (w0 :: vi z :: r) S M Q := mw_iload_n ⟨dX4_takes_4, rfl⟩ rfl k
theorem dX4_takes_5 : decode cX4_takes 5 = .ok (.iload_n 2, 1) := dk_28 (dk_at dksX4_takes_0 5 rfl rfl)
theorem iX4_takes_5 {d : Nat} {r S : List MV} {M : MH} {Q : Out → MH → Prop} {w0 w1 : MV} {z : Int} (k : MW mX4_takes d 6 (w0 :: w1 :: vi z :: r) (vi z :: S) M Q) : MW mX4_takes d 5 (w0 :: w1 :: vi z :: r) S M Q := mw_iload_n ⟨dX4_takes_5, rfl⟩ rfl k
theorem dX4_takes_6 : decode cX4_takes 6 = .ok (.iastore, 1) := dk_79 (dk_at dksX4_takes_0 6 rfl rfl)
theorem iX4_takes_6 {d : Nat} {L S : List MV} {M : MH} {Q : Out → MH → Prop} {a n : Nat} {z v : Int} (hs : msh M a = (100, n)) (hi : 0 ≤ z ∧ z < n) (k : MW mX4_takes d 7 L S (wI M a z.toNat v) Q) (hn : Nat.ble n 2147483647 = true := by rfl) : MW mX4_takes d 6 L (vi v :: vi z :: vp a :: S) M Q := mw_iastore ⟨dX4_takes_6, rfl⟩ hs (Nat.le_of_ble_eq_true hn) hi k
theorem dX4_takes_7 : decode cX4_takes 7 = .ok (.aload_n 0, 1) := dk_42 (dk_at dksX4_takes_0 7 rfl rfl)
theorem iX4_takes_7 {d : Nat} {r S : List MV} {M : MH} {Q : Out → MH → Prop} {o : Option Nat} (k : MW mX4_takes d 8 (vr o :: r) (vr o :: S) M Q) : MW mX4_takes d 7 (vr o :: r) S M Q := mw_aload_n ⟨dX4_takes_7, rfl⟩ rfl k
theorem dX4_takes_8 : decode cX4_takes 8 = .ok (.getfield 25, 3) := dk_180 0 25 (dk_at dksX4_takes_0 8 rfl rfl)
theorem iX4_takes_8 {d : Nat} {L S : List MV} {M : MH} {Q : Out → MH → Prop} {a : Nat} {o : Option Nat} (hs : (msh M a).1 = 6) (hr : mrv M a 3 = o) (k : MW mX4_takes d 11 L (vr o :: S) M Q) : MW mX4_takes d 8 L (vp a :: S) M Q := mw_getR (ci := 6) (k := 3) ⟨dX4_takes_8, rfl⟩ ⟨_, rfl, Nat.le_of_ble_eq_true rfl, Or.inl q208⟩ rfl hs hr k
theorem dX4_takes_11 : decode cX4_takes 11 = .ok (.iload_n 1, 1) := dk_27 (dk_at dksX4_takes_0 11 rfl rfl)
theorem iX4_takes_11 {d : Nat} {r S : List MV} {M : MH} {Q : Out → MH → Prop} {w0 : MV} {z : Int} (k : MW mX4_takes d 12 (w0 :: vi z :: r) (vi z :: S) M Q) : MW mX4_takes d 11 (w0 :: vi z :: r) S M Q := mw_iload_n ⟨dX4_takes_11, rfl⟩ rfl k
theorem dX4_takes_12 : decode cX4_takes 12 = .ok (.dup2, 1) := dk_92 (dk_at dksX4_takes_0 12 rfl rfl)
theorem iX4_takes_12 {d : Nat} {L S : List MV} {M : MH} {Q : Out → MH → Prop} {v w : MV} (k : MW mX4_takes d 13 L (v :: w :: v :: w :: S) M Q) (hv : mcat v = 1 := by rfl) (hw : mcat w = 1 := by rfl) : MW mX4_takes d 12 L (v :: w :: S) M Q := mw_dup2 ⟨dX4_takes_12, rfl⟩ hv hw k
theorem dX4_takes_13 : decode cX4_takes 13 = .ok (.iaload, 1) := dk_46 (dk_at dksX4_takes_0 13 rfl rfl)
theorem iX4_takes_13 {d : Nat} {L S : List MV} {M : MH} {Q : Out → MH → Prop} {a n : Nat} {z : Int} (hs : msh M a = (100, n)) (hi : 0 ≤ z ∧ z < n) (k : MW mX4_takes d 14 L (vi (miv M a z.toNat) :: S) M Q) (hn : Nat.ble n 2147483647 = true := by rfl) : MW mX4_takes d 13 L (vi z :: vp a :: S) M Q := mw_iaload ⟨dX4_takes_13, rfl⟩ hs (Nat.le_of_ble_eq_true hn) hi k
theorem dX4_takes_14 : decode cX4_takes 14 = .ok (.iconst 1, 1) := dk_4 (dk_at dksX4_takes_0 14 rfl rfl)
theorem iX4_takes_14 {d : Nat} {L S : List MV} {M : MH} {Q : Out → MH → Prop}  (k : MW mX4_takes d 15 (L) (vi 1 :: S) M Q) : MW mX4_takes d 14 (L) S M Q := mw_iconst ⟨dX4_takes_14, rfl⟩ k
theorem dX4_takes_15 : decode cX4_takes 15 = .ok (.iadd, 1) := dk_96 (dk_at dksX4_takes_0 15 rfl rfl)
theorem iX4_takes_15 {d : Nat} {L S : List MV} {M : MH} {Q : Out → MH → Prop} {a b : Int} (k : MW mX4_takes d 16 (L) (vi (a + b) :: S) M Q) : MW mX4_takes d 15 (L) (vi b :: vi a :: S) M Q := mw_iadd ⟨dX4_takes_15, rfl⟩ k
theorem dX4_takes_16 : decode cX4_takes 16 = .ok (.iastore, 1) := dk_79 (dk_at dksX4_takes_0 16 rfl rfl)
theorem iX4_takes_16 {d : Nat} {L S : List MV} {M : MH} {Q : Out → MH → Prop} {a n : Nat} {z v : Int} (hs : msh M a = (100, n)) (hi : 0 ≤ z ∧ z < n) (k : MW mX4_takes d 17 L S (wI M a z.toNat v) Q) (hn : Nat.ble n 2147483647 = true := by rfl) : MW mX4_takes d 16 L (vi v :: vi z :: vp a :: S) M Q := mw_iastore ⟨dX4_takes_16, rfl⟩ hs (Nat.le_of_ble_eq_true hn) hi k
theorem dX4_takes_17 : decode cX4_takes 17 = .ok (.iconst 0, 1) := dk_3 (dk_at dksX4_takes_0 17 rfl rfl)
theorem iX4_takes_17 {d : Nat} {L S : List MV} {M : MH} {Q : Out → MH → Prop}  (k : MW mX4_takes d 18 (L) (vi 0 :: S) M Q) : MW mX4_takes d 17 (L) S M Q := mw_iconst ⟨dX4_takes_17, rfl⟩ k
theorem dX4_takes_18 : decode cX4_takes 18 = .ok (.istore_n 3, 1) := dk_62 (dk_at dksX4_takes_0 18 rfl rfl)
theorem iX4_takes_18 {d : Nat} {r S : List MV} {M : MH} {Q : Out → MH → Prop} {w0 w1 w2 : MV} {z : Int} {v : MV} (k : MW mX4_takes d 19 (w0 :: w1 :: w2 :: vi z :: r) S M Q) (hok : okSt (w0 :: w1 :: w2 :: v :: r) 3 = true := by rfl) : MW mX4_takes d 18 (w0 :: w1 :: w2 :: v :: r) (vi z :: S) M Q := mw_istore_n (i := 3) ⟨dX4_takes_18, rfl⟩ rfl (Nat.le_of_ble_eq_true rfl) hok k
theorem dX4_takes_19 : decode cX4_takes 19 = .ok (.iload_n 3, 1) := dk_29 (dk_at dksX4_takes_0 19 rfl rfl)
theorem iX4_takes_19 {d : Nat} {r S : List MV} {M : MH} {Q : Out → MH → Prop} {w0 w1 w2 : MV} {z : Int} (k : MW mX4_takes d 20 (w0 :: w1 :: w2 :: vi z :: r) (vi z :: S) M Q) : MW mX4_takes d 19 (w0 :: w1 :: w2 :: vi z :: r) S M Q := mw_iload_n ⟨dX4_takes_19, rfl⟩ rfl k
theorem dX4_takes_20 : decode cX4_takes 20 = .ok (.aload_n 0, 1) := dk_42 (dk_at dksX4_takes_0 20 rfl rfl)
theorem iX4_takes_20 {d : Nat} {r S : List MV} {M : MH} {Q : Out → MH → Prop} {o : Option Nat} (k : MW mX4_takes d 21 (vr o :: r) (vr o :: S) M Q) : MW mX4_takes d 20 (vr o :: r) S M Q := mw_aload_n ⟨dX4_takes_20, rfl⟩ rfl k
theorem dX4_takes_21 : decode cX4_takes 21 = .ok (.getfield 3, 3) := dk_180 0 3 (dk_at dksX4_takes_0 21 rfl rfl)
theorem iX4_takes_21 {d : Nat} {L S : List MV} {M : MH} {Q : Out → MH → Prop} {a : Nat} {o : Option Nat} (hs : (msh M a).1 = 6) (hr : mrv M a 5 = o) (k : MW mX4_takes d 24 L (vr o :: S) M Q) : MW mX4_takes d 21 L (vp a :: S) M Q := mw_getR (ci := 6) (k := 5) ⟨dX4_takes_21, rfl⟩ ⟨_, rfl, Nat.le_of_ble_eq_true rfl, Or.inl q211⟩ rfl hs hr k
theorem dX4_takes_24 : decode cX4_takes 24 = .ok (.invokevirtual 28, 3) := dk_182 0 28 (dk_at dksX4_takes_1 0 rfl rfl)
theorem iX4_takes_24 {d : Nat} {L S : List MV} {M : MH} {Q : Out → MH → Prop} {b : Nat} {P : Int → MH → Prop} (hs : (msh M b).1 = 0) (hM : MCi mX0_houses d [vp b] M P) (k : ∀ z M', P z M' → MW mX4_takes (d + 1) 27 L (vi z :: S) M' Q) (h8 : Nat.ble (S.map mcat).sum 8 = true := by rfl) : MW mX4_takes (d + 1) 24 L (vp b :: S) M Q := mw_calli (as := [vp b]) (site_V (Y' := mX0_houses) (n := 0) ⟨dX4_takes_24, rfl⟩ (Or.inr ⟨_, lw_b q775 rfl⟩) q633 qs6 wX0_houses nX0_houses hX0_houses (cls_of (ci := 0) rfl hs) rfl) kX0_houses (Nat.le_of_ble_eq_true h8) hM k
theorem dX4_takes_27 : decode cX4_takes 27 = .ok (.if_icmp .ge 38, 3) := dk_162 0 38 (dk_at dksX4_takes_1 3 rfl rfl)
theorem iX4_takes_27 {d : Nat} {L S : List MV} {M : MH} {Q : Out → MH → Prop} {a b : Int} (ha : inR a) (hb : inR b) (kt : b ≤ a → MW mX4_takes d 65 L S M Q) (kf : ¬ b ≤ a → MW mX4_takes d 30 L S M Q) : MW mX4_takes d 27 L (vi b :: vi a :: S) M Q := mw_icmp_ge ⟨dX4_takes_27, rfl⟩ rfl ha hb kt kf
theorem dX4_takes_30 : decode cX4_takes 30 = .ok (.aload_n 0, 1) := dk_42 (dk_at dksX4_takes_1 6 rfl rfl)
theorem iX4_takes_30 {d : Nat} {r S : List MV} {M : MH} {Q : Out → MH → Prop} {o : Option Nat} (k : MW mX4_takes d 31 (vr o :: r) (vr o :: S) M Q) : MW mX4_takes d 30 (vr o :: r) S M Q := mw_aload_n ⟨dX4_takes_30, rfl⟩ rfl k
theorem dX4_takes_31 : decode cX4_takes 31 = .ok (.getfield 3, 3) := dk_180 0 3 (dk_at dksX4_takes_1 7 rfl rfl)
theorem iX4_takes_31 {d : Nat} {L S : List MV} {M : MH} {Q : Out → MH → Prop} {a : Nat} {o : Option Nat} (hs : (msh M a).1 = 6) (hr : mrv M a 5 = o) (k : MW mX4_takes d 34 L (vr o :: S) M Q) : MW mX4_takes d 31 L (vp a :: S) M Q := mw_getR (ci := 6) (k := 5) ⟨dX4_takes_31, rfl⟩ ⟨_, rfl, Nat.le_of_ble_eq_true rfl, Or.inl q211⟩ rfl hs hr k
theorem dX4_takes_34 : decode cX4_takes 34 = .ok (.getfield 76, 3) := dk_180 0 76 (dk_at dksX4_takes_1 10 rfl rfl)
theorem iX4_takes_34 {d : Nat} {L S : List MV} {M : MH} {Q : Out → MH → Prop} {a : Nat} {o : Option Nat} (hs : (msh M a).1 = 0) (hr : mrv M a 4 = o) (k : MW mX4_takes d 37 L (vr o :: S) M Q) : MW mX4_takes d 34 L (vp a :: S) M Q := mw_getR (ci := 0) (k := 4) ⟨dX4_takes_34, rfl⟩ ⟨_, rfl, Nat.le_of_ble_eq_true rfl, Or.inr (Or.inr ⟨_, lw_b q266 rfl⟩)⟩ rfl hs hr k
theorem dX4_takes_37 : decode cX4_takes 37 = .ok (.iconst 1, 1) := dk_4 (dk_at dksX4_takes_1 13 rfl rfl)
theorem iX4_takes_37 {d : Nat} {L S : List MV} {M : MH} {Q : Out → MH → Prop}  (k : MW mX4_takes d 38 (L) (vi 1 :: S) M Q) : MW mX4_takes d 37 (L) S M Q := mw_iconst ⟨dX4_takes_37, rfl⟩ k
theorem dX4_takes_38 : decode cX4_takes 38 = .ok (.iaload, 1) := dk_46 (dk_at dksX4_takes_1 14 rfl rfl)
theorem iX4_takes_38 {d : Nat} {L S : List MV} {M : MH} {Q : Out → MH → Prop} {a n : Nat} {z : Int} (hs : msh M a = (100, n)) (hi : 0 ≤ z ∧ z < n) (k : MW mX4_takes d 39 L (vi (miv M a z.toNat) :: S) M Q) (hn : Nat.ble n 2147483647 = true := by rfl) : MW mX4_takes d 38 L (vi z :: vp a :: S) M Q := mw_iaload ⟨dX4_takes_38, rfl⟩ hs (Nat.le_of_ble_eq_true hn) hi k
theorem dX4_takes_39 : decode cX4_takes 39 = .ok (.iconst 1, 1) := dk_4 (dk_at dksX4_takes_1 15 rfl rfl)
theorem iX4_takes_39 {d : Nat} {L S : List MV} {M : MH} {Q : Out → MH → Prop}  (k : MW mX4_takes d 40 (L) (vi 1 :: S) M Q) : MW mX4_takes d 39 (L) S M Q := mw_iconst ⟨dX4_takes_39, rfl⟩ k
theorem dX4_takes_40 : decode cX4_takes 40 = .ok (.if_icmp .ne 19, 3) := dk_160 0 19 (dk_at dksX4_takes_1 16 rfl rfl)
theorem iX4_takes_40 {d : Nat} {L S : List MV} {M : MH} {Q : Out → MH → Prop} {a b : Int} (ha : inR a) (hb : inR b) (kt : a ≠ b → MW mX4_takes d 59 L S M Q) (kf : a = b → MW mX4_takes d 43 L S M Q) : MW mX4_takes d 40 L (vi b :: vi a :: S) M Q := mw_icmp_ne ⟨dX4_takes_40, rfl⟩ rfl ha hb kt kf
theorem dX4_takes_43 : decode cX4_takes 43 = .ok (.aload_n 0, 1) := dk_42 (dk_at dksX4_takes_1 19 rfl rfl)
theorem iX4_takes_43 {d : Nat} {r S : List MV} {M : MH} {Q : Out → MH → Prop} {o : Option Nat} (k : MW mX4_takes d 44 (vr o :: r) (vr o :: S) M Q) : MW mX4_takes d 43 (vr o :: r) S M Q := mw_aload_n ⟨dX4_takes_43, rfl⟩ rfl k
theorem dX4_takes_44 : decode cX4_takes 44 = .ok (.getfield 19, 3) := dk_180 0 19 (dk_at dksX4_takes_1 20 rfl rfl)
theorem iX4_takes_44 {d : Nat} {L S : List MV} {M : MH} {Q : Out → MH → Prop} {a : Nat} {o : Option Nat} (hs : (msh M a).1 = 6) (hr : mrv M a 1 = o) (k : MW mX4_takes d 47 L (vr o :: S) M Q) : MW mX4_takes d 44 L (vp a :: S) M Q := mw_getR (ci := 6) (k := 1) ⟨dX4_takes_44, rfl⟩ ⟨_, rfl, Nat.le_of_ble_eq_true rfl, Or.inl q203⟩ rfl hs hr k
theorem dX4_takes_47 : decode cX4_takes 47 = .ok (.iload_n 3, 1) := dk_29 (dk_at dksX4_takes_1 23 rfl rfl)
theorem iX4_takes_47 {d : Nat} {r S : List MV} {M : MH} {Q : Out → MH → Prop} {w0 w1 w2 : MV} {z : Int} (k : MW mX4_takes d 48 (w0 :: w1 :: w2 :: vi z :: r) (vi z :: S) M Q) : MW mX4_takes d 47 (w0 :: w1 :: w2 :: vi z :: r) S M Q := mw_iload_n ⟨dX4_takes_47, rfl⟩ rfl k
theorem dX4_takes_48 : decode cX4_takes 48 = .ok (.iaload, 1) := dk_46 (dk_at dksX4_takes_2 0 rfl rfl)
theorem iX4_takes_48 {d : Nat} {L S : List MV} {M : MH} {Q : Out → MH → Prop} {a n : Nat} {z : Int} (hs : msh M a = (100, n)) (hi : 0 ≤ z ∧ z < n) (k : MW mX4_takes d 49 L (vi (miv M a z.toNat) :: S) M Q) (hn : Nat.ble n 2147483647 = true := by rfl) : MW mX4_takes d 48 L (vi z :: vp a :: S) M Q := mw_iaload ⟨dX4_takes_48, rfl⟩ hs (Nat.le_of_ble_eq_true hn) hi k
theorem dX4_takes_49 : decode cX4_takes 49 = .ok (.iload_n 1, 1) := dk_27 (dk_at dksX4_takes_2 1 rfl rfl)
theorem iX4_takes_49 {d : Nat} {r S : List MV} {M : MH} {Q : Out → MH → Prop} {w0 : MV} {z : Int} (k : MW mX4_takes d 50 (w0 :: vi z :: r) (vi z :: S) M Q) : MW mX4_takes d 49 (w0 :: vi z :: r) S M Q := mw_iload_n ⟨dX4_takes_49, rfl⟩ rfl k
theorem dX4_takes_50 : decode cX4_takes 50 = .ok (.if_icmp .ne 9, 3) := dk_160 0 9 (dk_at dksX4_takes_2 2 rfl rfl)
theorem iX4_takes_50 {d : Nat} {L S : List MV} {M : MH} {Q : Out → MH → Prop} {a b : Int} (ha : inR a) (hb : inR b) (kt : a ≠ b → MW mX4_takes d 59 L S M Q) (kf : a = b → MW mX4_takes d 53 L S M Q) : MW mX4_takes d 50 L (vi b :: vi a :: S) M Q := mw_icmp_ne ⟨dX4_takes_50, rfl⟩ rfl ha hb kt kf
theorem dX4_takes_53 : decode cX4_takes 53 = .ok (.aload_n 0, 1) := dk_42 (dk_at dksX4_takes_2 5 rfl rfl)
theorem iX4_takes_53 {d : Nat} {r S : List MV} {M : MH} {Q : Out → MH → Prop} {o : Option Nat} (k : MW mX4_takes d 54 (vr o :: r) (vr o :: S) M Q) : MW mX4_takes d 53 (vr o :: r) S M Q := mw_aload_n ⟨dX4_takes_53, rfl⟩ rfl k
theorem dX4_takes_54 : decode cX4_takes 54 = .ok (.iload_n 3, 1) := dk_29 (dk_at dksX4_takes_2 6 rfl rfl)
theorem iX4_takes_54 {d : Nat} {r S : List MV} {M : MH} {Q : Out → MH → Prop} {w0 w1 w2 : MV} {z : Int} (k : MW mX4_takes d 55 (w0 :: w1 :: w2 :: vi z :: r) (vi z :: S) M Q) : MW mX4_takes d 54 (w0 :: w1 :: w2 :: vi z :: r) S M Q := mw_iload_n ⟨dX4_takes_54, rfl⟩ rfl k
theorem dX4_takes_55 : decode cX4_takes 55 = .ok (.iload_n 2, 1) := dk_28 (dk_at dksX4_takes_2 7 rfl rfl)
theorem iX4_takes_55 {d : Nat} {r S : List MV} {M : MH} {Q : Out → MH → Prop} {w0 w1 : MV} {z : Int} (k : MW mX4_takes d 56 (w0 :: w1 :: vi z :: r) (vi z :: S) M Q) : MW mX4_takes d 55 (w0 :: w1 :: vi z :: r) S M Q := mw_iload_n ⟨dX4_takes_55, rfl⟩ rfl k
theorem dX4_takes_56 : decode cX4_takes 56 = .ok (.invokevirtual 63, 3) := dk_182 0 63 (dk_at dksX4_takes_2 8 rfl rfl)
theorem iX4_takes_56 {d : Nat} {L S : List MV} {M : MH} {Q : Out → MH → Prop} {v1 v2 : MV} {b : Nat} {P : MH → Prop} (hs : (msh M b).1 = 6) (hM : MCv mX4_goes d [vp b, v1, v2] M P) (k : ∀ M', P M' → MW mX4_takes (d + 1) 59 L S M' Q) (h8 : Nat.ble (S.map mcat).sum 8 = true := by rfl) : MW mX4_takes (d + 1) 56 L (v2 :: v1 :: vp b :: S) M Q := mw_callv (as := [vp b, v1, v2]) (site_V (Y' := mX4_goes) (n := 2) ⟨dX4_takes_56, rfl⟩ (Or.inl q798) q800 qs20 wX4_goes nX4_goes hX4_goes (cls_of (ci := 6) rfl hs) rfl) kX4_goes (Nat.le_of_ble_eq_true h8) hM k
theorem dX4_takes_59 : decode cX4_takes 59 = .ok (.iinc 3 1, 3) := dk_132 3 1 (dk_at dksX4_takes_2 11 rfl rfl)
theorem iX4_takes_59 {d : Nat} {r S : List MV} {M : MH} {Q : Out → MH → Prop} {w0 w1 w2 : MV} {z : Int} (k : MW mX4_takes d 62 (w0 :: w1 :: w2 :: vi (z + 1) :: r) S M Q) (hok : okSt (w0 :: w1 :: w2 :: vi z :: r) 3 = true := by rfl) : MW mX4_takes d 59 (w0 :: w1 :: w2 :: vi z :: r) S M Q := mw_iinc (i := 3) ⟨dX4_takes_59, rfl⟩ rfl (Nat.le_of_ble_eq_true rfl) hok k
theorem dX4_takes_62 : decode cX4_takes 62 = .ok (.goto (-43), 3) := dk_167 255 213 (dk_at dksX4_takes_2 14 rfl rfl)
theorem iX4_takes_62 {d : Nat} {L S : List MV} {M : MH} {Q : Out → MH → Prop}  (k : MW mX4_takes d 19 (L) S M Q) : MW mX4_takes d 62 (L) S M Q := mw_goto ⟨dX4_takes_62, rfl⟩ rfl k
theorem dX4_takes_65 : decode cX4_takes 65 = .ok (.return_, 1) := dk_177 (dk_at dksX4_takes_2 17 rfl rfl)
theorem iX4_takes_65 {d : Nat} {L : List MV} {M : MH} {P : MH → Prop} (hq : P M) : MW mX4_takes d 65 L [] M (Rv P) := mw_retv ⟨dX4_takes_65, rfl⟩ rfl hq
/-! X4_gain -/
def dkwX4_gain_4 : List UInt8 := [96, 61, 132, 3, 1, 167, 255, 214, 28, 172]
abbrev dktX4_gain_4 : List UInt8 := dkwX4_gain_4 ++ []
def dkwX4_gain_3 : List UInt8 := [180, 0, 19, 29, 46, 27, 160, 0, 17, 42, 180, 0, 3, 29, 182, 0, 32, 180, 0, 99, 167, 0, 4, 3]
abbrev dktX4_gain_3 : List UInt8 := dkwX4_gain_3 ++ dktX4_gain_4
def dkwX4_gain_2 : List UInt8 := [96, 61, 132, 3, 1, 167, 255, 209, 3, 62, 29, 42, 180, 0, 3, 182, 0, 28, 162, 0, 37, 28, 42]
abbrev dktX4_gain_2 : List UInt8 := dkwX4_gain_2 ++ dktX4_gain_3
def dkwX4_gain_1 : List UInt8 := [180, 0, 22, 29, 46, 27, 160, 0, 17, 42, 180, 0, 3, 180, 0, 95, 27, 50, 29, 46, 167, 0, 4, 3]
abbrev dktX4_gain_1 : List UInt8 := dkwX4_gain_1 ++ dktX4_gain_2
def dkwX4_gain_0 : List UInt8 := [3, 61, 3, 62, 29, 42, 180, 0, 3, 182, 0, 46, 162, 0, 42, 28, 29, 27, 159, 0, 27, 42]
abbrev dktX4_gain_0 : List UInt8 := dkwX4_gain_0 ++ dktX4_gain_1
theorem dksX4_gain_0 : cX4_gain.data.toList.drop 0 = dktX4_gain_0 := by decide +kernel
theorem dksX4_gain_1 : cX4_gain.data.toList.drop 22 = dktX4_gain_1 := dk_seg dksX4_gain_0 22 rfl rfl
theorem dksX4_gain_2 : cX4_gain.data.toList.drop 46 = dktX4_gain_2 := dk_seg dksX4_gain_1 24 rfl rfl
theorem dksX4_gain_3 : cX4_gain.data.toList.drop 69 = dktX4_gain_3 := dk_seg dksX4_gain_2 23 rfl rfl
theorem dksX4_gain_4 : cX4_gain.data.toList.drop 93 = dktX4_gain_4 := dk_seg dksX4_gain_3 24 rfl rfl
theorem dX4_gain_0 : decode cX4_gain 0 = .ok (.iconst 0, 1) := dk_3 (dk_at dksX4_gain_0 0 rfl rfl)
theorem iX4_gain_0 {d : Nat} {L S : List MV} {M : MH} {Q : Out → MH → Prop}  (k : MW mX4_gain d 1 (L) (vi 0 :: S) M Q) : MW mX4_gain d 0 (L) S M Q := mw_iconst ⟨dX4_gain_0, rfl⟩ k
theorem dX4_gain_1 : decode cX4_gain 1 = .ok (.istore_n 2, 1) := dk_61 (dk_at dksX4_gain_0 1 rfl rfl)
theorem iX4_gain_1 {d : Nat} {r S : List MV} {M : MH} {Q : Out → MH → Prop} {w0 w1 : MV} {z : Int} {v : MV} (k : MW mX4_gain d 2 (w0 :: w1 :: vi z :: r) S M Q) (hok : okSt (w0 :: w1 :: v :: r) 2 = true := by rfl) : MW mX4_gain d 1 (w0 :: w1 :: v :: r) (vi z :: S) M Q := mw_istore_n (i := 2) ⟨dX4_gain_1, rfl⟩ rfl (Nat.le_of_ble_eq_true rfl) hok k
theorem dX4_gain_2 : decode cX4_gain 2 = .ok (.iconst 0, 1) := dk_3 (dk_at dksX4_gain_0 2 rfl rfl)
theorem iX4_gain_2 {d : Nat} {L S : List MV} {M : MH} {Q : Out → MH → Prop}  (k : MW mX4_gain d 3 (L) (vi 0 :: S) M Q) : MW mX4_gain d 2 (L) S M Q := mw_iconst ⟨dX4_gain_2, rfl⟩ k
theorem dX4_gain_3 : decode cX4_gain 3 = .ok (.istore_n 3, 1) := dk_62 (dk_at dksX4_gain_0 3 rfl rfl)
theorem iX4_gain_3 {d : Nat} {r S : List MV} {M : MH} {Q : Out → MH → Prop} {w0 w1 w2 : MV} {z : Int} {v : MV} (k : MW mX4_gain d 4 (w0 :: w1 :: w2 :: vi z :: r) S M Q) (hok : okSt (w0 :: w1 :: w2 :: v :: r) 3 = true := by rfl) : MW mX4_gain d 3 (w0 :: w1 :: w2 :: v :: r) (vi z :: S) M Q := mw_istore_n (i := 3) ⟨dX4_gain_3, rfl⟩ rfl (Nat.le_of_ble_eq_true rfl) hok k
theorem dX4_gain_4 : decode cX4_gain 4 = .ok (.iload_n 3, 1) := dk_29 (dk_at dksX4_gain_0 4 rfl rfl)
theorem iX4_gain_4 {d : Nat} {r S : List MV} {M : MH} {Q : Out → MH → Prop} {w0 w1 w2 : MV} {z : Int} (k : MW mX4_gain d 5 (w0 :: w1 :: w2 :: vi z :: r) (vi z :: S) M Q) : MW mX4_gain d 4 (w0 :: w1 :: w2 :: vi z :: r) S M Q := mw_iload_n ⟨dX4_gain_4, rfl⟩ rfl k
theorem dX4_gain_5 : decode cX4_gain 5 = .ok (.aload_n 0, 1) := dk_42 (dk_at dksX4_gain_0 5 rfl rfl)
theorem iX4_gain_5 {d : Nat} {r S : List MV} {M : MH} {Q : Out → MH → Prop} {o : Option Nat} (k : MW mX4_gain d 6 (vr o :: r) (vr o :: S) M Q) : MW mX4_gain d 5 (vr o :: r) S M Q := mw_aload_n ⟨dX4_gain_5, rfl⟩ rfl k
theorem dX4_gain_6 : decode cX4_gain 6 = .ok (.getfield 3, 3) := dk_180 0 3 (dk_at dksX4_gain_0 6 rfl rfl)
theorem iX4_gain_6 {d : Nat} {L S : List MV} {M : MH} {Q : Out → MH → Prop} {a : Nat} {o : Option Nat} (hs : (msh M a).1 = 6) (hr : mrv M a 5 = o) (k : MW mX4_gain d 9 L (vr o :: S) M Q) : MW mX4_gain d 6 L (vp a :: S) M Q := mw_getR (ci := 6) (k := 5) ⟨dX4_gain_6, rfl⟩ ⟨_, rfl, Nat.le_of_ble_eq_true rfl, Or.inl q211⟩ rfl hs hr k
theorem dX4_gain_9 : decode cX4_gain 9 = .ok (.invokevirtual 46, 3) := dk_182 0 46 (dk_at dksX4_gain_0 9 rfl rfl)
theorem iX4_gain_9 {d : Nat} {L S : List MV} {M : MH} {Q : Out → MH → Prop} {b : Nat} {P : Int → MH → Prop} (hs : (msh M b).1 = 0) (hM : MCi mX0_people d [vp b] M P) (k : ∀ z M', P z M' → MW mX4_gain (d + 1) 12 L (vi z :: S) M' Q) (h8 : Nat.ble (S.map mcat).sum 8 = true := by rfl) : MW mX4_gain (d + 1) 9 L (vp b :: S) M Q := mw_calli (as := [vp b]) (site_V (Y' := mX0_people) (n := 0) ⟨dX4_gain_9, rfl⟩ (Or.inr ⟨_, lw_b q781 rfl⟩) q678 qs10 wX0_people nX0_people hX0_people (cls_of (ci := 0) rfl hs) rfl) kX0_people (Nat.le_of_ble_eq_true h8) hM k
theorem dX4_gain_12 : decode cX4_gain 12 = .ok (.if_icmp .ge 42, 3) := dk_162 0 42 (dk_at dksX4_gain_0 12 rfl rfl)
theorem iX4_gain_12 {d : Nat} {L S : List MV} {M : MH} {Q : Out → MH → Prop} {a b : Int} (ha : inR a) (hb : inR b) (kt : b ≤ a → MW mX4_gain d 54 L S M Q) (kf : ¬ b ≤ a → MW mX4_gain d 15 L S M Q) : MW mX4_gain d 12 L (vi b :: vi a :: S) M Q := mw_icmp_ge ⟨dX4_gain_12, rfl⟩ rfl ha hb kt kf
theorem dX4_gain_15 : decode cX4_gain 15 = .ok (.iload_n 2, 1) := dk_28 (dk_at dksX4_gain_0 15 rfl rfl)
theorem iX4_gain_15 {d : Nat} {r S : List MV} {M : MH} {Q : Out → MH → Prop} {w0 w1 : MV} {z : Int} (k : MW mX4_gain d 16 (w0 :: w1 :: vi z :: r) (vi z :: S) M Q) : MW mX4_gain d 15 (w0 :: w1 :: vi z :: r) S M Q := mw_iload_n ⟨dX4_gain_15, rfl⟩ rfl k
theorem dX4_gain_16 : decode cX4_gain 16 = .ok (.iload_n 3, 1) := dk_29 (dk_at dksX4_gain_0 16 rfl rfl)
theorem iX4_gain_16 {d : Nat} {r S : List MV} {M : MH} {Q : Out → MH → Prop} {w0 w1 w2 : MV} {z : Int} (k : MW mX4_gain d 17 (w0 :: w1 :: w2 :: vi z :: r) (vi z :: S) M Q) : MW mX4_gain d 16 (w0 :: w1 :: w2 :: vi z :: r) S M Q := mw_iload_n ⟨dX4_gain_16, rfl⟩ rfl k
theorem dX4_gain_17 : decode cX4_gain 17 = .ok (.iload_n 1, 1) := dk_27 (dk_at dksX4_gain_0 17 rfl rfl)
theorem iX4_gain_17 {d : Nat} {r S : List MV} {M : MH} {Q : Out → MH → Prop} {w0 : MV} {z : Int} (k : MW mX4_gain d 18 (w0 :: vi z :: r) (vi z :: S) M Q) : MW mX4_gain d 17 (w0 :: vi z :: r) S M Q := mw_iload_n ⟨dX4_gain_17, rfl⟩ rfl k
theorem dX4_gain_18 : decode cX4_gain 18 = .ok (.if_icmp .eq 27, 3) := dk_159 0 27 (dk_at dksX4_gain_0 18 rfl rfl)
theorem iX4_gain_18 {d : Nat} {L S : List MV} {M : MH} {Q : Out → MH → Prop} {a b : Int} (ha : inR a) (hb : inR b) (kt : a = b → MW mX4_gain d 45 L S M Q) (kf : ¬ a = b → MW mX4_gain d 21 L S M Q) : MW mX4_gain d 18 L (vi b :: vi a :: S) M Q := mw_icmp_eq ⟨dX4_gain_18, rfl⟩ rfl ha hb kt kf
theorem dX4_gain_21 : decode cX4_gain 21 = .ok (.aload_n 0, 1) := dk_42 (dk_at dksX4_gain_0 21 rfl rfl)
theorem iX4_gain_21 {d : Nat} {r S : List MV} {M : MH} {Q : Out → MH → Prop} {o : Option Nat} (k : MW mX4_gain d 22 (vr o :: r) (vr o :: S) M Q) : MW mX4_gain d 21 (vr o :: r) S M Q := mw_aload_n ⟨dX4_gain_21, rfl⟩ rfl k
theorem dX4_gain_22 : decode cX4_gain 22 = .ok (.getfield 22, 3) := dk_180 0 22 (dk_at dksX4_gain_1 0 rfl rfl)
theorem iX4_gain_22 {d : Nat} {L S : List MV} {M : MH} {Q : Out → MH → Prop} {a : Nat} {o : Option Nat} (hs : (msh M a).1 = 6) (hr : mrv M a 2 = o) (k : MW mX4_gain d 25 L (vr o :: S) M Q) : MW mX4_gain d 22 L (vp a :: S) M Q := mw_getR (ci := 6) (k := 2) ⟨dX4_gain_22, rfl⟩ ⟨_, rfl, Nat.le_of_ble_eq_true rfl, Or.inl q206⟩ rfl hs hr k
theorem dX4_gain_25 : decode cX4_gain 25 = .ok (.iload_n 3, 1) := dk_29 (dk_at dksX4_gain_1 3 rfl rfl)
theorem iX4_gain_25 {d : Nat} {r S : List MV} {M : MH} {Q : Out → MH → Prop} {w0 w1 w2 : MV} {z : Int} (k : MW mX4_gain d 26 (w0 :: w1 :: w2 :: vi z :: r) (vi z :: S) M Q) : MW mX4_gain d 25 (w0 :: w1 :: w2 :: vi z :: r) S M Q := mw_iload_n ⟨dX4_gain_25, rfl⟩ rfl k
theorem dX4_gain_26 : decode cX4_gain 26 = .ok (.iaload, 1) := dk_46 (dk_at dksX4_gain_1 4 rfl rfl)
theorem iX4_gain_26 {d : Nat} {L S : List MV} {M : MH} {Q : Out → MH → Prop} {a n : Nat} {z : Int} (hs : msh M a = (100, n)) (hi : 0 ≤ z ∧ z < n) (k : MW mX4_gain d 27 L (vi (miv M a z.toNat) :: S) M Q) (hn : Nat.ble n 2147483647 = true := by rfl) : MW mX4_gain d 26 L (vi z :: vp a :: S) M Q := mw_iaload ⟨dX4_gain_26, rfl⟩ hs (Nat.le_of_ble_eq_true hn) hi k
theorem dX4_gain_27 : decode cX4_gain 27 = .ok (.iload_n 1, 1) := dk_27 (dk_at dksX4_gain_1 5 rfl rfl)
theorem iX4_gain_27 {d : Nat} {r S : List MV} {M : MH} {Q : Out → MH → Prop} {w0 : MV} {z : Int} (k : MW mX4_gain d 28 (w0 :: vi z :: r) (vi z :: S) M Q) : MW mX4_gain d 27 (w0 :: vi z :: r) S M Q := mw_iload_n ⟨dX4_gain_27, rfl⟩ rfl k
theorem dX4_gain_28 : decode cX4_gain 28 = .ok (.if_icmp .ne 17, 3) := dk_160 0 17 (dk_at dksX4_gain_1 6 rfl rfl)
theorem iX4_gain_28 {d : Nat} {L S : List MV} {M : MH} {Q : Out → MH → Prop} {a b : Int} (ha : inR a) (hb : inR b) (kt : a ≠ b → MW mX4_gain d 45 L S M Q) (kf : a = b → MW mX4_gain d 31 L S M Q) : MW mX4_gain d 28 L (vi b :: vi a :: S) M Q := mw_icmp_ne ⟨dX4_gain_28, rfl⟩ rfl ha hb kt kf
theorem dX4_gain_31 : decode cX4_gain 31 = .ok (.aload_n 0, 1) := dk_42 (dk_at dksX4_gain_1 9 rfl rfl)
theorem iX4_gain_31 {d : Nat} {r S : List MV} {M : MH} {Q : Out → MH → Prop} {o : Option Nat} (k : MW mX4_gain d 32 (vr o :: r) (vr o :: S) M Q) : MW mX4_gain d 31 (vr o :: r) S M Q := mw_aload_n ⟨dX4_gain_31, rfl⟩ rfl k
theorem dX4_gain_32 : decode cX4_gain 32 = .ok (.getfield 3, 3) := dk_180 0 3 (dk_at dksX4_gain_1 10 rfl rfl)
theorem iX4_gain_32 {d : Nat} {L S : List MV} {M : MH} {Q : Out → MH → Prop} {a : Nat} {o : Option Nat} (hs : (msh M a).1 = 6) (hr : mrv M a 5 = o) (k : MW mX4_gain d 35 L (vr o :: S) M Q) : MW mX4_gain d 32 L (vp a :: S) M Q := mw_getR (ci := 6) (k := 5) ⟨dX4_gain_32, rfl⟩ ⟨_, rfl, Nat.le_of_ble_eq_true rfl, Or.inl q211⟩ rfl hs hr k
theorem dX4_gain_35 : decode cX4_gain 35 = .ok (.getfield 95, 3) := dk_180 0 95 (dk_at dksX4_gain_1 13 rfl rfl)
theorem iX4_gain_35 {d : Nat} {L S : List MV} {M : MH} {Q : Out → MH → Prop} {a : Nat} {o : Option Nat} (hs : (msh M a).1 = 0) (hr : mrv M a 14 = o) (k : MW mX4_gain d 38 L (vr o :: S) M Q) : MW mX4_gain d 35 L (vp a :: S) M Q := mw_getR (ci := 0) (k := 14) ⟨dX4_gain_35, rfl⟩ ⟨_, rfl, Nat.le_of_ble_eq_true rfl, Or.inr (Or.inr ⟨_, lw_b q281 rfl⟩)⟩ rfl hs hr k
theorem dX4_gain_38 : decode cX4_gain 38 = .ok (.iload_n 1, 1) := dk_27 (dk_at dksX4_gain_1 16 rfl rfl)
theorem iX4_gain_38 {d : Nat} {r S : List MV} {M : MH} {Q : Out → MH → Prop} {w0 : MV} {z : Int} (k : MW mX4_gain d 39 (w0 :: vi z :: r) (vi z :: S) M Q) : MW mX4_gain d 38 (w0 :: vi z :: r) S M Q := mw_iload_n ⟨dX4_gain_38, rfl⟩ rfl k
theorem dX4_gain_39 : decode cX4_gain 39 = .ok (.aaload, 1) := dk_50 (dk_at dksX4_gain_1 17 rfl rfl)
theorem iX4_gain_39 {d : Nat} {L S : List MV} {M : MH} {Q : Out → MH → Prop} {a n ak : Nat} {z : Int} {o : Option Nat} (h4 : 4 ≤ ak) (hs : msh M a = (100 + ak, n)) (hi : 0 ≤ z ∧ z < n) (hn : n ≤ 2147483647) (hr : mrv M a z.toNat = o) (k : MW mX4_gain d 40 L (vr o :: S) M Q) : MW mX4_gain d 39 L (vi z :: vp a :: S) M Q := mw_aaload ⟨dX4_gain_39, rfl⟩ h4 hs hn hi hr k
theorem dX4_gain_40 : decode cX4_gain 40 = .ok (.iload_n 3, 1) := dk_29 (dk_at dksX4_gain_1 18 rfl rfl)
theorem iX4_gain_40 {d : Nat} {r S : List MV} {M : MH} {Q : Out → MH → Prop} {w0 w1 w2 : MV} {z : Int} (k : MW mX4_gain d 41 (w0 :: w1 :: w2 :: vi z :: r) (vi z :: S) M Q) : MW mX4_gain d 40 (w0 :: w1 :: w2 :: vi z :: r) S M Q := mw_iload_n ⟨dX4_gain_40, rfl⟩ rfl k
theorem dX4_gain_41 : decode cX4_gain 41 = .ok (.iaload, 1) := dk_46 (dk_at dksX4_gain_1 19 rfl rfl)
theorem iX4_gain_41 {d : Nat} {L S : List MV} {M : MH} {Q : Out → MH → Prop} {a n : Nat} {z : Int} (hs : msh M a = (100, n)) (hi : 0 ≤ z ∧ z < n) (k : MW mX4_gain d 42 L (vi (miv M a z.toNat) :: S) M Q) (hn : Nat.ble n 2147483647 = true := by rfl) : MW mX4_gain d 41 L (vi z :: vp a :: S) M Q := mw_iaload ⟨dX4_gain_41, rfl⟩ hs (Nat.le_of_ble_eq_true hn) hi k
theorem dX4_gain_42 : decode cX4_gain 42 = .ok (.goto 4, 3) := dk_167 0 4 (dk_at dksX4_gain_1 20 rfl rfl)
theorem iX4_gain_42 {d : Nat} {L S : List MV} {M : MH} {Q : Out → MH → Prop}  (k : MW mX4_gain d 46 (L) S M Q) : MW mX4_gain d 42 (L) S M Q := mw_goto ⟨dX4_gain_42, rfl⟩ rfl k
theorem dX4_gain_45 : decode cX4_gain 45 = .ok (.iconst 0, 1) := dk_3 (dk_at dksX4_gain_1 23 rfl rfl)
theorem iX4_gain_45 {d : Nat} {L S : List MV} {M : MH} {Q : Out → MH → Prop}  (k : MW mX4_gain d 46 (L) (vi 0 :: S) M Q) : MW mX4_gain d 45 (L) S M Q := mw_iconst ⟨dX4_gain_45, rfl⟩ k
theorem dX4_gain_46 : decode cX4_gain 46 = .ok (.iadd, 1) := dk_96 (dk_at dksX4_gain_2 0 rfl rfl)
theorem iX4_gain_46 {d : Nat} {L S : List MV} {M : MH} {Q : Out → MH → Prop} {a b : Int} (k : MW mX4_gain d 47 (L) (vi (a + b) :: S) M Q) : MW mX4_gain d 46 (L) (vi b :: vi a :: S) M Q := mw_iadd ⟨dX4_gain_46, rfl⟩ k
theorem dX4_gain_47 : decode cX4_gain 47 = .ok (.istore_n 2, 1) := dk_61 (dk_at dksX4_gain_2 1 rfl rfl)
theorem iX4_gain_47 {d : Nat} {r S : List MV} {M : MH} {Q : Out → MH → Prop} {w0 w1 : MV} {z : Int} {v : MV} (k : MW mX4_gain d 48 (w0 :: w1 :: vi z :: r) S M Q) (hok : okSt (w0 :: w1 :: v :: r) 2 = true := by rfl) : MW mX4_gain d 47 (w0 :: w1 :: v :: r) (vi z :: S) M Q := mw_istore_n (i := 2) ⟨dX4_gain_47, rfl⟩ rfl (Nat.le_of_ble_eq_true rfl) hok k
theorem dX4_gain_48 : decode cX4_gain 48 = .ok (.iinc 3 1, 3) := dk_132 3 1 (dk_at dksX4_gain_2 2 rfl rfl)
theorem iX4_gain_48 {d : Nat} {r S : List MV} {M : MH} {Q : Out → MH → Prop} {w0 w1 w2 : MV} {z : Int} (k : MW mX4_gain d 51 (w0 :: w1 :: w2 :: vi (z + 1) :: r) S M Q) (hok : okSt (w0 :: w1 :: w2 :: vi z :: r) 3 = true := by rfl) : MW mX4_gain d 48 (w0 :: w1 :: w2 :: vi z :: r) S M Q := mw_iinc (i := 3) ⟨dX4_gain_48, rfl⟩ rfl (Nat.le_of_ble_eq_true rfl) hok k
theorem dX4_gain_51 : decode cX4_gain 51 = .ok (.goto (-47), 3) := dk_167 255 209 (dk_at dksX4_gain_2 5 rfl rfl)
theorem iX4_gain_51 {d : Nat} {L S : List MV} {M : MH} {Q : Out → MH → Prop}  (k : MW mX4_gain d 4 (L) S M Q) : MW mX4_gain d 51 (L) S M Q := mw_goto ⟨dX4_gain_51, rfl⟩ rfl k
theorem dX4_gain_54 : decode cX4_gain 54 = .ok (.iconst 0, 1) := dk_3 (dk_at dksX4_gain_2 8 rfl rfl)
theorem iX4_gain_54 {d : Nat} {L S : List MV} {M : MH} {Q : Out → MH → Prop}  (k : MW mX4_gain d 55 (L) (vi 0 :: S) M Q) : MW mX4_gain d 54 (L) S M Q := mw_iconst ⟨dX4_gain_54, rfl⟩ k
theorem dX4_gain_55 : decode cX4_gain 55 = .ok (.istore_n 3, 1) := dk_62 (dk_at dksX4_gain_2 9 rfl rfl)
theorem iX4_gain_55 {d : Nat} {r S : List MV} {M : MH} {Q : Out → MH → Prop} {w0 w1 w2 : MV} {z : Int} {v : MV} (k : MW mX4_gain d 56 (w0 :: w1 :: w2 :: vi z :: r) S M Q) (hok : okSt (w0 :: w1 :: w2 :: v :: r) 3 = true := by rfl) : MW mX4_gain d 55 (w0 :: w1 :: w2 :: v :: r) (vi z :: S) M Q := mw_istore_n (i := 3) ⟨dX4_gain_55, rfl⟩ rfl (Nat.le_of_ble_eq_true rfl) hok k
theorem dX4_gain_56 : decode cX4_gain 56 = .ok (.iload_n 3, 1) := dk_29 (dk_at dksX4_gain_2 10 rfl rfl)
theorem iX4_gain_56 {d : Nat} {r S : List MV} {M : MH} {Q : Out → MH → Prop} {w0 w1 w2 : MV} {z : Int} (k : MW mX4_gain d 57 (w0 :: w1 :: w2 :: vi z :: r) (vi z :: S) M Q) : MW mX4_gain d 56 (w0 :: w1 :: w2 :: vi z :: r) S M Q := mw_iload_n ⟨dX4_gain_56, rfl⟩ rfl k
theorem dX4_gain_57 : decode cX4_gain 57 = .ok (.aload_n 0, 1) := dk_42 (dk_at dksX4_gain_2 11 rfl rfl)
theorem iX4_gain_57 {d : Nat} {r S : List MV} {M : MH} {Q : Out → MH → Prop} {o : Option Nat} (k : MW mX4_gain d 58 (vr o :: r) (vr o :: S) M Q) : MW mX4_gain d 57 (vr o :: r) S M Q := mw_aload_n ⟨dX4_gain_57, rfl⟩ rfl k
theorem dX4_gain_58 : decode cX4_gain 58 = .ok (.getfield 3, 3) := dk_180 0 3 (dk_at dksX4_gain_2 12 rfl rfl)
theorem iX4_gain_58 {d : Nat} {L S : List MV} {M : MH} {Q : Out → MH → Prop} {a : Nat} {o : Option Nat} (hs : (msh M a).1 = 6) (hr : mrv M a 5 = o) (k : MW mX4_gain d 61 L (vr o :: S) M Q) : MW mX4_gain d 58 L (vp a :: S) M Q := mw_getR (ci := 6) (k := 5) ⟨dX4_gain_58, rfl⟩ ⟨_, rfl, Nat.le_of_ble_eq_true rfl, Or.inl q211⟩ rfl hs hr k
theorem dX4_gain_61 : decode cX4_gain 61 = .ok (.invokevirtual 28, 3) := dk_182 0 28 (dk_at dksX4_gain_2 15 rfl rfl)
theorem iX4_gain_61 {d : Nat} {L S : List MV} {M : MH} {Q : Out → MH → Prop} {b : Nat} {P : Int → MH → Prop} (hs : (msh M b).1 = 0) (hM : MCi mX0_houses d [vp b] M P) (k : ∀ z M', P z M' → MW mX4_gain (d + 1) 64 L (vi z :: S) M' Q) (h8 : Nat.ble (S.map mcat).sum 8 = true := by rfl) : MW mX4_gain (d + 1) 61 L (vp b :: S) M Q := mw_calli (as := [vp b]) (site_V (Y' := mX0_houses) (n := 0) ⟨dX4_gain_61, rfl⟩ (Or.inr ⟨_, lw_b q775 rfl⟩) q633 qs6 wX0_houses nX0_houses hX0_houses (cls_of (ci := 0) rfl hs) rfl) kX0_houses (Nat.le_of_ble_eq_true h8) hM k
theorem dX4_gain_64 : decode cX4_gain 64 = .ok (.if_icmp .ge 37, 3) := dk_162 0 37 (dk_at dksX4_gain_2 18 rfl rfl)
theorem iX4_gain_64 {d : Nat} {L S : List MV} {M : MH} {Q : Out → MH → Prop} {a b : Int} (ha : inR a) (hb : inR b) (kt : b ≤ a → MW mX4_gain d 101 L S M Q) (kf : ¬ b ≤ a → MW mX4_gain d 67 L S M Q) : MW mX4_gain d 64 L (vi b :: vi a :: S) M Q := mw_icmp_ge ⟨dX4_gain_64, rfl⟩ rfl ha hb kt kf
theorem dX4_gain_67 : decode cX4_gain 67 = .ok (.iload_n 2, 1) := dk_28 (dk_at dksX4_gain_2 21 rfl rfl)
theorem iX4_gain_67 {d : Nat} {r S : List MV} {M : MH} {Q : Out → MH → Prop} {w0 w1 : MV} {z : Int} (k : MW mX4_gain d 68 (w0 :: w1 :: vi z :: r) (vi z :: S) M Q) : MW mX4_gain d 67 (w0 :: w1 :: vi z :: r) S M Q := mw_iload_n ⟨dX4_gain_67, rfl⟩ rfl k
theorem dX4_gain_68 : decode cX4_gain 68 = .ok (.aload_n 0, 1) := dk_42 (dk_at dksX4_gain_2 22 rfl rfl)
theorem iX4_gain_68 {d : Nat} {r S : List MV} {M : MH} {Q : Out → MH → Prop} {o : Option Nat} (k : MW mX4_gain d 69 (vr o :: r) (vr o :: S) M Q) : MW mX4_gain d 68 (vr o :: r) S M Q := mw_aload_n ⟨dX4_gain_68, rfl⟩ rfl k
theorem dX4_gain_69 : decode cX4_gain 69 = .ok (.getfield 19, 3) := dk_180 0 19 (dk_at dksX4_gain_3 0 rfl rfl)
theorem iX4_gain_69 {d : Nat} {L S : List MV} {M : MH} {Q : Out → MH → Prop} {a : Nat} {o : Option Nat} (hs : (msh M a).1 = 6) (hr : mrv M a 1 = o) (k : MW mX4_gain d 72 L (vr o :: S) M Q) : MW mX4_gain d 69 L (vp a :: S) M Q := mw_getR (ci := 6) (k := 1) ⟨dX4_gain_69, rfl⟩ ⟨_, rfl, Nat.le_of_ble_eq_true rfl, Or.inl q203⟩ rfl hs hr k
theorem dX4_gain_72 : decode cX4_gain 72 = .ok (.iload_n 3, 1) := dk_29 (dk_at dksX4_gain_3 3 rfl rfl)
theorem iX4_gain_72 {d : Nat} {r S : List MV} {M : MH} {Q : Out → MH → Prop} {w0 w1 w2 : MV} {z : Int} (k : MW mX4_gain d 73 (w0 :: w1 :: w2 :: vi z :: r) (vi z :: S) M Q) : MW mX4_gain d 72 (w0 :: w1 :: w2 :: vi z :: r) S M Q := mw_iload_n ⟨dX4_gain_72, rfl⟩ rfl k
theorem dX4_gain_73 : decode cX4_gain 73 = .ok (.iaload, 1) := dk_46 (dk_at dksX4_gain_3 4 rfl rfl)
theorem iX4_gain_73 {d : Nat} {L S : List MV} {M : MH} {Q : Out → MH → Prop} {a n : Nat} {z : Int} (hs : msh M a = (100, n)) (hi : 0 ≤ z ∧ z < n) (k : MW mX4_gain d 74 L (vi (miv M a z.toNat) :: S) M Q) (hn : Nat.ble n 2147483647 = true := by rfl) : MW mX4_gain d 73 L (vi z :: vp a :: S) M Q := mw_iaload ⟨dX4_gain_73, rfl⟩ hs (Nat.le_of_ble_eq_true hn) hi k
theorem dX4_gain_74 : decode cX4_gain 74 = .ok (.iload_n 1, 1) := dk_27 (dk_at dksX4_gain_3 5 rfl rfl)
theorem iX4_gain_74 {d : Nat} {r S : List MV} {M : MH} {Q : Out → MH → Prop} {w0 : MV} {z : Int} (k : MW mX4_gain d 75 (w0 :: vi z :: r) (vi z :: S) M Q) : MW mX4_gain d 74 (w0 :: vi z :: r) S M Q := mw_iload_n ⟨dX4_gain_74, rfl⟩ rfl k
theorem dX4_gain_75 : decode cX4_gain 75 = .ok (.if_icmp .ne 17, 3) := dk_160 0 17 (dk_at dksX4_gain_3 6 rfl rfl)
theorem iX4_gain_75 {d : Nat} {L S : List MV} {M : MH} {Q : Out → MH → Prop} {a b : Int} (ha : inR a) (hb : inR b) (kt : a ≠ b → MW mX4_gain d 92 L S M Q) (kf : a = b → MW mX4_gain d 78 L S M Q) : MW mX4_gain d 75 L (vi b :: vi a :: S) M Q := mw_icmp_ne ⟨dX4_gain_75, rfl⟩ rfl ha hb kt kf
theorem dX4_gain_78 : decode cX4_gain 78 = .ok (.aload_n 0, 1) := dk_42 (dk_at dksX4_gain_3 9 rfl rfl)
theorem iX4_gain_78 {d : Nat} {r S : List MV} {M : MH} {Q : Out → MH → Prop} {o : Option Nat} (k : MW mX4_gain d 79 (vr o :: r) (vr o :: S) M Q) : MW mX4_gain d 78 (vr o :: r) S M Q := mw_aload_n ⟨dX4_gain_78, rfl⟩ rfl k
theorem dX4_gain_79 : decode cX4_gain 79 = .ok (.getfield 3, 3) := dk_180 0 3 (dk_at dksX4_gain_3 10 rfl rfl)
theorem iX4_gain_79 {d : Nat} {L S : List MV} {M : MH} {Q : Out → MH → Prop} {a : Nat} {o : Option Nat} (hs : (msh M a).1 = 6) (hr : mrv M a 5 = o) (k : MW mX4_gain d 82 L (vr o :: S) M Q) : MW mX4_gain d 79 L (vp a :: S) M Q := mw_getR (ci := 6) (k := 5) ⟨dX4_gain_79, rfl⟩ ⟨_, rfl, Nat.le_of_ble_eq_true rfl, Or.inl q211⟩ rfl hs hr k
theorem dX4_gain_82 : decode cX4_gain 82 = .ok (.iload_n 3, 1) := dk_29 (dk_at dksX4_gain_3 13 rfl rfl)
theorem iX4_gain_82 {d : Nat} {r S : List MV} {M : MH} {Q : Out → MH → Prop} {w0 w1 w2 : MV} {z : Int} (k : MW mX4_gain d 83 (w0 :: w1 :: w2 :: vi z :: r) (vi z :: S) M Q) : MW mX4_gain d 82 (w0 :: w1 :: w2 :: vi z :: r) S M Q := mw_iload_n ⟨dX4_gain_82, rfl⟩ rfl k
theorem dX4_gain_83 : decode cX4_gain 83 = .ok (.invokevirtual 32, 3) := dk_182 0 32 (dk_at dksX4_gain_3 14 rfl rfl)
theorem iX4_gain_83 {d : Nat} {L S : List MV} {M : MH} {Q : Out → MH → Prop} {v1 : MV} {b : Nat} {P : Option Nat → MH → Prop} (hs : (msh M b).1 = 0) (hM : MCr mX0_house_2 d [vp b, v1] M P) (k : ∀ o M', P o M' → MW mX4_gain (d + 1) 86 L (vr o :: S) M' Q) (h8 : Nat.ble (S.map mcat).sum 8 = true := by rfl) : MW mX4_gain (d + 1) 83 L (v1 :: vp b :: S) M Q := mw_callr (as := [vp b, v1]) (site_V (Y' := mX0_house_2) (n := 1) ⟨dX4_gain_83, rfl⟩ (Or.inr ⟨_, lw_b q776 rfl⟩) q649 qs8 wX0_house_2 nX0_house_2 hX0_house_2 (cls_of (ci := 0) rfl hs) rfl) kX0_house_2 (Nat.le_of_ble_eq_true h8) hM k
theorem dX4_gain_86 : decode cX4_gain 86 = .ok (.getfield 99, 3) := dk_180 0 99 (dk_at dksX4_gain_3 17 rfl rfl)
theorem iX4_gain_86 {d : Nat} {L S : List MV} {M : MH} {Q : Out → MH → Prop} {a : Nat} (hs : (msh M a).1 = 4) (k : MW mX4_gain d 89 L (vi (miv M a 1) :: S) M Q) : MW mX4_gain d 86 L (vp a :: S) M Q := mw_getI (ci := 4) (k := 1) ⟨dX4_gain_86, rfl⟩ ⟨_, rfl, Nat.le_of_ble_eq_true rfl, Or.inr (Or.inr ⟨_, lw_b q552 rfl⟩)⟩ rfl hs k
theorem dX4_gain_89 : decode cX4_gain 89 = .ok (.goto 4, 3) := dk_167 0 4 (dk_at dksX4_gain_3 20 rfl rfl)
theorem iX4_gain_89 {d : Nat} {L S : List MV} {M : MH} {Q : Out → MH → Prop}  (k : MW mX4_gain d 93 (L) S M Q) : MW mX4_gain d 89 (L) S M Q := mw_goto ⟨dX4_gain_89, rfl⟩ rfl k
theorem dX4_gain_92 : decode cX4_gain 92 = .ok (.iconst 0, 1) := dk_3 (dk_at dksX4_gain_3 23 rfl rfl)
theorem iX4_gain_92 {d : Nat} {L S : List MV} {M : MH} {Q : Out → MH → Prop}  (k : MW mX4_gain d 93 (L) (vi 0 :: S) M Q) : MW mX4_gain d 92 (L) S M Q := mw_iconst ⟨dX4_gain_92, rfl⟩ k
theorem dX4_gain_93 : decode cX4_gain 93 = .ok (.iadd, 1) := dk_96 (dk_at dksX4_gain_4 0 rfl rfl)
theorem iX4_gain_93 {d : Nat} {L S : List MV} {M : MH} {Q : Out → MH → Prop} {a b : Int} (k : MW mX4_gain d 94 (L) (vi (a + b) :: S) M Q) : MW mX4_gain d 93 (L) (vi b :: vi a :: S) M Q := mw_iadd ⟨dX4_gain_93, rfl⟩ k
theorem dX4_gain_94 : decode cX4_gain 94 = .ok (.istore_n 2, 1) := dk_61 (dk_at dksX4_gain_4 1 rfl rfl)
theorem iX4_gain_94 {d : Nat} {r S : List MV} {M : MH} {Q : Out → MH → Prop} {w0 w1 : MV} {z : Int} {v : MV} (k : MW mX4_gain d 95 (w0 :: w1 :: vi z :: r) S M Q) (hok : okSt (w0 :: w1 :: v :: r) 2 = true := by rfl) : MW mX4_gain d 94 (w0 :: w1 :: v :: r) (vi z :: S) M Q := mw_istore_n (i := 2) ⟨dX4_gain_94, rfl⟩ rfl (Nat.le_of_ble_eq_true rfl) hok k
theorem dX4_gain_95 : decode cX4_gain 95 = .ok (.iinc 3 1, 3) := dk_132 3 1 (dk_at dksX4_gain_4 2 rfl rfl)
theorem iX4_gain_95 {d : Nat} {r S : List MV} {M : MH} {Q : Out → MH → Prop} {w0 w1 w2 : MV} {z : Int} (k : MW mX4_gain d 98 (w0 :: w1 :: w2 :: vi (z + 1) :: r) S M Q) (hok : okSt (w0 :: w1 :: w2 :: vi z :: r) 3 = true := by rfl) : MW mX4_gain d 95 (w0 :: w1 :: w2 :: vi z :: r) S M Q := mw_iinc (i := 3) ⟨dX4_gain_95, rfl⟩ rfl (Nat.le_of_ble_eq_true rfl) hok k
theorem dX4_gain_98 : decode cX4_gain 98 = .ok (.goto (-42), 3) := dk_167 255 214 (dk_at dksX4_gain_4 5 rfl rfl)
theorem iX4_gain_98 {d : Nat} {L S : List MV} {M : MH} {Q : Out → MH → Prop}  (k : MW mX4_gain d 56 (L) S M Q) : MW mX4_gain d 98 (L) S M Q := mw_goto ⟨dX4_gain_98, rfl⟩ rfl k
theorem dX4_gain_101 : decode cX4_gain 101 = .ok (.iload_n 2, 1) := dk_28 (dk_at dksX4_gain_4 8 rfl rfl)
theorem iX4_gain_101 {d : Nat} {r S : List MV} {M : MH} {Q : Out → MH → Prop} {w0 w1 : MV} {z : Int} (k : MW mX4_gain d 102 (w0 :: w1 :: vi z :: r) (vi z :: S) M Q) : MW mX4_gain d 101 (w0 :: w1 :: vi z :: r) S M Q := mw_iload_n ⟨dX4_gain_101, rfl⟩ rfl k
theorem dX4_gain_102 : decode cX4_gain 102 = .ok (.ireturn, 1) := dk_172 (dk_at dksX4_gain_4 9 rfl rfl)
theorem iX4_gain_102 {d : Nat} {L : List MV} {M : MH} {P : Int → MH → Prop} {z : Int} (hq : P z M) : MW mX4_gain d 102 L [vi z] M (Ri P) := mw_reti ⟨dX4_gain_102, rfl⟩ rfl hq
/-! X4_sellsAll -/
def dkwX4_sellsAll_1 : List UInt8 := [180, 0, 3, 180, 0, 88, 27, 46, 182, 0, 91, 87, 132, 1, 1, 167, 255, 219, 42, 176]
abbrev dktX4_sellsAll_1 : List UInt8 := dkwX4_sellsAll_1 ++ []
def dkwX4_sellsAll_0 : List UInt8 := [3, 60, 27, 42, 180, 0, 3, 180, 0, 82, 162, 0, 32, 42, 42, 180, 0, 3, 180, 0, 85, 27, 46, 42]
abbrev dktX4_sellsAll_0 : List UInt8 := dkwX4_sellsAll_0 ++ dktX4_sellsAll_1
theorem dksX4_sellsAll_0 : cX4_sellsAll.data.toList.drop 0 = dktX4_sellsAll_0 := by decide +kernel
theorem dksX4_sellsAll_1 : cX4_sellsAll.data.toList.drop 24 = dktX4_sellsAll_1 := dk_seg dksX4_sellsAll_0 24 rfl rfl
theorem dX4_sellsAll_0 : decode cX4_sellsAll 0 = .ok (.iconst 0, 1) := dk_3 (dk_at dksX4_sellsAll_0 0 rfl rfl)
theorem iX4_sellsAll_0 {d : Nat} {L S : List MV} {M : MH} {Q : Out → MH → Prop}  (k : MW mX4_sellsAll d 1 (L) (vi 0 :: S) M Q) : MW mX4_sellsAll d 0 (L) S M Q := mw_iconst ⟨dX4_sellsAll_0, rfl⟩ k
theorem dX4_sellsAll_1 : decode cX4_sellsAll 1 = .ok (.istore_n 1, 1) := dk_60 (dk_at dksX4_sellsAll_0 1 rfl rfl)
theorem iX4_sellsAll_1 {d : Nat} {r S : List MV} {M : MH} {Q : Out → MH → Prop} {w0 : MV} {z : Int} {v : MV} (k : MW mX4_sellsAll d 2 (w0 :: vi z :: r) S M Q) (hok : okSt (w0 :: v :: r) 1 = true := by rfl) : MW mX4_sellsAll d 1 (w0 :: v :: r) (vi z :: S) M Q := mw_istore_n (i := 1) ⟨dX4_sellsAll_1, rfl⟩ rfl (Nat.le_of_ble_eq_true rfl) hok k
theorem dX4_sellsAll_2 : decode cX4_sellsAll 2 = .ok (.iload_n 1, 1) := dk_27 (dk_at dksX4_sellsAll_0 2 rfl rfl)
theorem iX4_sellsAll_2 {d : Nat} {r S : List MV} {M : MH} {Q : Out → MH → Prop} {w0 : MV} {z : Int} (k : MW mX4_sellsAll d 3 (w0 :: vi z :: r) (vi z :: S) M Q) : MW mX4_sellsAll d 2 (w0 :: vi z :: r) S M Q := mw_iload_n ⟨dX4_sellsAll_2, rfl⟩ rfl k
theorem dX4_sellsAll_3 : decode cX4_sellsAll 3 = .ok (.aload_n 0, 1) := dk_42 (dk_at dksX4_sellsAll_0 3 rfl rfl)
theorem iX4_sellsAll_3 {d : Nat} {r S : List MV} {M : MH} {Q : Out → MH → Prop} {o : Option Nat} (k : MW mX4_sellsAll d 4 (vr o :: r) (vr o :: S) M Q) : MW mX4_sellsAll d 3 (vr o :: r) S M Q := mw_aload_n ⟨dX4_sellsAll_3, rfl⟩ rfl k
theorem dX4_sellsAll_4 : decode cX4_sellsAll 4 = .ok (.getfield 3, 3) := dk_180 0 3 (dk_at dksX4_sellsAll_0 4 rfl rfl)
theorem iX4_sellsAll_4 {d : Nat} {L S : List MV} {M : MH} {Q : Out → MH → Prop} {a : Nat} {o : Option Nat} (hs : (msh M a).1 = 6) (hr : mrv M a 5 = o) (k : MW mX4_sellsAll d 7 L (vr o :: S) M Q) : MW mX4_sellsAll d 4 L (vp a :: S) M Q := mw_getR (ci := 6) (k := 5) ⟨dX4_sellsAll_4, rfl⟩ ⟨_, rfl, Nat.le_of_ble_eq_true rfl, Or.inl q211⟩ rfl hs hr k
theorem dX4_sellsAll_7 : decode cX4_sellsAll 7 = .ok (.getfield 82, 3) := dk_180 0 82 (dk_at dksX4_sellsAll_0 7 rfl rfl)
theorem iX4_sellsAll_7 {d : Nat} {L S : List MV} {M : MH} {Q : Out → MH → Prop} {a : Nat} (hs : (msh M a).1 = 0) (k : MW mX4_sellsAll d 10 L (vi (miv M a 7) :: S) M Q) : MW mX4_sellsAll d 7 L (vp a :: S) M Q := mw_getI (ci := 0) (k := 7) ⟨dX4_sellsAll_7, rfl⟩ ⟨_, rfl, Nat.le_of_ble_eq_true rfl, Or.inr (Or.inr ⟨_, lw_b q271 rfl⟩)⟩ rfl hs k
theorem dX4_sellsAll_10 : decode cX4_sellsAll 10 = .ok (.if_icmp .ge 32, 3) := dk_162 0 32 (dk_at dksX4_sellsAll_0 10 rfl rfl)
theorem iX4_sellsAll_10 {d : Nat} {L S : List MV} {M : MH} {Q : Out → MH → Prop} {a b : Int} (ha : inR a) (hb : inR b) (kt : b ≤ a → MW mX4_sellsAll d 42 L S M Q) (kf : ¬ b ≤ a → MW mX4_sellsAll d 13 L S M Q) : MW mX4_sellsAll d 10 L (vi b :: vi a :: S) M Q := mw_icmp_ge ⟨dX4_sellsAll_10, rfl⟩ rfl ha hb kt kf
theorem dX4_sellsAll_13 : decode cX4_sellsAll 13 = .ok (.aload_n 0, 1) := dk_42 (dk_at dksX4_sellsAll_0 13 rfl rfl)
theorem iX4_sellsAll_13 {d : Nat} {r S : List MV} {M : MH} {Q : Out → MH → Prop} {o : Option Nat} (k : MW mX4_sellsAll d 14 (vr o :: r) (vr o :: S) M Q) : MW mX4_sellsAll d 13 (vr o :: r) S M Q := mw_aload_n ⟨dX4_sellsAll_13, rfl⟩ rfl k
theorem dX4_sellsAll_14 : decode cX4_sellsAll 14 = .ok (.aload_n 0, 1) := dk_42 (dk_at dksX4_sellsAll_0 14 rfl rfl)
theorem iX4_sellsAll_14 {d : Nat} {r S : List MV} {M : MH} {Q : Out → MH → Prop} {o : Option Nat} (k : MW mX4_sellsAll d 15 (vr o :: r) (vr o :: S) M Q) : MW mX4_sellsAll d 14 (vr o :: r) S M Q := mw_aload_n ⟨dX4_sellsAll_14, rfl⟩ rfl k
theorem dX4_sellsAll_15 : decode cX4_sellsAll 15 = .ok (.getfield 3, 3) := dk_180 0 3 (dk_at dksX4_sellsAll_0 15 rfl rfl)
theorem iX4_sellsAll_15 {d : Nat} {L S : List MV} {M : MH} {Q : Out → MH → Prop} {a : Nat} {o : Option Nat} (hs : (msh M a).1 = 6) (hr : mrv M a 5 = o) (k : MW mX4_sellsAll d 18 L (vr o :: S) M Q) : MW mX4_sellsAll d 15 L (vp a :: S) M Q := mw_getR (ci := 6) (k := 5) ⟨dX4_sellsAll_15, rfl⟩ ⟨_, rfl, Nat.le_of_ble_eq_true rfl, Or.inl q211⟩ rfl hs hr k
theorem dX4_sellsAll_18 : decode cX4_sellsAll 18 = .ok (.getfield 85, 3) := dk_180 0 85 (dk_at dksX4_sellsAll_0 18 rfl rfl)
theorem iX4_sellsAll_18 {d : Nat} {L S : List MV} {M : MH} {Q : Out → MH → Prop} {a : Nat} {o : Option Nat} (hs : (msh M a).1 = 0) (hr : mrv M a 5 = o) (k : MW mX4_sellsAll d 21 L (vr o :: S) M Q) : MW mX4_sellsAll d 18 L (vp a :: S) M Q := mw_getR (ci := 0) (k := 5) ⟨dX4_sellsAll_18, rfl⟩ ⟨_, rfl, Nat.le_of_ble_eq_true rfl, Or.inr (Or.inr ⟨_, lw_b q268 rfl⟩)⟩ rfl hs hr k
theorem dX4_sellsAll_21 : decode cX4_sellsAll 21 = .ok (.iload_n 1, 1) := dk_27 (dk_at dksX4_sellsAll_0 21 rfl rfl)
theorem iX4_sellsAll_21 {d : Nat} {r S : List MV} {M : MH} {Q : Out → MH → Prop} {w0 : MV} {z : Int} (k : MW mX4_sellsAll d 22 (w0 :: vi z :: r) (vi z :: S) M Q) : MW mX4_sellsAll d 21 (w0 :: vi z :: r) S M Q := mw_iload_n ⟨dX4_sellsAll_21, rfl⟩ rfl k
theorem dX4_sellsAll_22 : decode cX4_sellsAll 22 = .ok (.iaload, 1) := dk_46 (dk_at dksX4_sellsAll_0 22 rfl rfl)
theorem iX4_sellsAll_22 {d : Nat} {L S : List MV} {M : MH} {Q : Out → MH → Prop} {a n : Nat} {z : Int} (hs : msh M a = (100, n)) (hi : 0 ≤ z ∧ z < n) (k : MW mX4_sellsAll d 23 L (vi (miv M a z.toNat) :: S) M Q) (hn : Nat.ble n 2147483647 = true := by rfl) : MW mX4_sellsAll d 22 L (vi z :: vp a :: S) M Q := mw_iaload ⟨dX4_sellsAll_22, rfl⟩ hs (Nat.le_of_ble_eq_true hn) hi k
theorem dX4_sellsAll_23 : decode cX4_sellsAll 23 = .ok (.aload_n 0, 1) := dk_42 (dk_at dksX4_sellsAll_0 23 rfl rfl)
theorem iX4_sellsAll_23 {d : Nat} {r S : List MV} {M : MH} {Q : Out → MH → Prop} {o : Option Nat} (k : MW mX4_sellsAll d 24 (vr o :: r) (vr o :: S) M Q) : MW mX4_sellsAll d 23 (vr o :: r) S M Q := mw_aload_n ⟨dX4_sellsAll_23, rfl⟩ rfl k
theorem dX4_sellsAll_24 : decode cX4_sellsAll 24 = .ok (.getfield 3, 3) := dk_180 0 3 (dk_at dksX4_sellsAll_1 0 rfl rfl)
theorem iX4_sellsAll_24 {d : Nat} {L S : List MV} {M : MH} {Q : Out → MH → Prop} {a : Nat} {o : Option Nat} (hs : (msh M a).1 = 6) (hr : mrv M a 5 = o) (k : MW mX4_sellsAll d 27 L (vr o :: S) M Q) : MW mX4_sellsAll d 24 L (vp a :: S) M Q := mw_getR (ci := 6) (k := 5) ⟨dX4_sellsAll_24, rfl⟩ ⟨_, rfl, Nat.le_of_ble_eq_true rfl, Or.inl q211⟩ rfl hs hr k
theorem dX4_sellsAll_27 : decode cX4_sellsAll 27 = .ok (.getfield 88, 3) := dk_180 0 88 (dk_at dksX4_sellsAll_1 3 rfl rfl)
theorem iX4_sellsAll_27 {d : Nat} {L S : List MV} {M : MH} {Q : Out → MH → Prop} {a : Nat} {o : Option Nat} (hs : (msh M a).1 = 0) (hr : mrv M a 6 = o) (k : MW mX4_sellsAll d 30 L (vr o :: S) M Q) : MW mX4_sellsAll d 27 L (vp a :: S) M Q := mw_getR (ci := 0) (k := 6) ⟨dX4_sellsAll_27, rfl⟩ ⟨_, rfl, Nat.le_of_ble_eq_true rfl, Or.inr (Or.inr ⟨_, lw_b q270 rfl⟩)⟩ rfl hs hr k
theorem dX4_sellsAll_30 : decode cX4_sellsAll 30 = .ok (.iload_n 1, 1) := dk_27 (dk_at dksX4_sellsAll_1 6 rfl rfl)
theorem iX4_sellsAll_30 {d : Nat} {r S : List MV} {M : MH} {Q : Out → MH → Prop} {w0 : MV} {z : Int} (k : MW mX4_sellsAll d 31 (w0 :: vi z :: r) (vi z :: S) M Q) : MW mX4_sellsAll d 30 (w0 :: vi z :: r) S M Q := mw_iload_n ⟨dX4_sellsAll_30, rfl⟩ rfl k
theorem dX4_sellsAll_31 : decode cX4_sellsAll 31 = .ok (.iaload, 1) := dk_46 (dk_at dksX4_sellsAll_1 7 rfl rfl)
theorem iX4_sellsAll_31 {d : Nat} {L S : List MV} {M : MH} {Q : Out → MH → Prop} {a n : Nat} {z : Int} (hs : msh M a = (100, n)) (hi : 0 ≤ z ∧ z < n) (k : MW mX4_sellsAll d 32 L (vi (miv M a z.toNat) :: S) M Q) (hn : Nat.ble n 2147483647 = true := by rfl) : MW mX4_sellsAll d 31 L (vi z :: vp a :: S) M Q := mw_iaload ⟨dX4_sellsAll_31, rfl⟩ hs (Nat.le_of_ble_eq_true hn) hi k
theorem dX4_sellsAll_32 : decode cX4_sellsAll 32 = .ok (.invokevirtual 91, 3) := dk_182 0 91 (dk_at dksX4_sellsAll_1 8 rfl rfl)
theorem iX4_sellsAll_32 {d : Nat} {L S : List MV} {M : MH} {Q : Out → MH → Prop} {v1 v2 : MV} {b : Nat} {P : Int → MH → Prop} (hs : (msh M b).1 = 6) (hM : MCi mX4_sells d [vp b, v1, v2] M P) (k : ∀ z M', P z M' → MW mX4_sellsAll (d + 1) 35 L (vi z :: S) M' Q) (h8 : Nat.ble (S.map mcat).sum 8 = true := by rfl) : MW mX4_sellsAll (d + 1) 32 L (v2 :: v1 :: vp b :: S) M Q := mw_calli (as := [vp b, v1, v2]) (site_V (Y' := mX4_sells) (n := 2) ⟨dX4_sellsAll_32, rfl⟩ (Or.inl q893) q793 q794 wX4_sells nX4_sells hX4_sells (cls_of (ci := 6) rfl hs) rfl) kX4_sells (Nat.le_of_ble_eq_true h8) hM k
theorem dX4_sellsAll_35 : decode cX4_sellsAll 35 = .ok (.pop, 1) := dk_87 (dk_at dksX4_sellsAll_1 11 rfl rfl)
theorem iX4_sellsAll_35 {d : Nat} {L S : List MV} {M : MH} {Q : Out → MH → Prop} {v : MV} (k : MW mX4_sellsAll d 36 L S M Q) (hv : mcat v = 1 := by rfl) : MW mX4_sellsAll d 35 L (v :: S) M Q := mw_pop ⟨dX4_sellsAll_35, rfl⟩ hv k
theorem dX4_sellsAll_36 : decode cX4_sellsAll 36 = .ok (.iinc 1 1, 3) := dk_132 1 1 (dk_at dksX4_sellsAll_1 12 rfl rfl)
theorem iX4_sellsAll_36 {d : Nat} {r S : List MV} {M : MH} {Q : Out → MH → Prop} {w0 : MV} {z : Int} (k : MW mX4_sellsAll d 39 (w0 :: vi (z + 1) :: r) S M Q) (hok : okSt (w0 :: vi z :: r) 1 = true := by rfl) : MW mX4_sellsAll d 36 (w0 :: vi z :: r) S M Q := mw_iinc (i := 1) ⟨dX4_sellsAll_36, rfl⟩ rfl (Nat.le_of_ble_eq_true rfl) hok k
theorem dX4_sellsAll_39 : decode cX4_sellsAll 39 = .ok (.goto (-37), 3) := dk_167 255 219 (dk_at dksX4_sellsAll_1 15 rfl rfl)
theorem iX4_sellsAll_39 {d : Nat} {L S : List MV} {M : MH} {Q : Out → MH → Prop}  (k : MW mX4_sellsAll d 2 (L) S M Q) : MW mX4_sellsAll d 39 (L) S M Q := mw_goto ⟨dX4_sellsAll_39, rfl⟩ rfl k
theorem dX4_sellsAll_42 : decode cX4_sellsAll 42 = .ok (.aload_n 0, 1) := dk_42 (dk_at dksX4_sellsAll_1 18 rfl rfl)
theorem iX4_sellsAll_42 {d : Nat} {r S : List MV} {M : MH} {Q : Out → MH → Prop} {o : Option Nat} (k : MW mX4_sellsAll d 43 (vr o :: r) (vr o :: S) M Q) : MW mX4_sellsAll d 42 (vr o :: r) S M Q := mw_aload_n ⟨dX4_sellsAll_42, rfl⟩ rfl k
theorem dX4_sellsAll_43 : decode cX4_sellsAll 43 = .ok (.areturn, 1) := dk_176 (dk_at dksX4_sellsAll_1 19 rfl rfl)
theorem iX4_sellsAll_43 {d : Nat} {L : List MV} {M : MH} {P : Option Nat → MH → Prop} {o : Option Nat} (hq : P o M) : MW mX4_sellsAll d 43 L [vr o] M (Rr P) := mw_retr ⟨dX4_sellsAll_43, rfl⟩ rfl (Or.inl ⟨_, rfl⟩) hq
/-! X5_init -/
def dkwX5_init_1 : List UInt8 := [181, 0, 19, 177]
abbrev dktX5_init_1 : List UInt8 := dkwX5_init_1 ++ []
def dkwX5_init_0 : List UInt8 := [42, 43, 181, 0, 3, 42, 183, 0, 9, 42, 17, 16, 0, 188, 10, 181, 0, 15, 42, 17, 16, 0, 188, 10]
abbrev dktX5_init_0 : List UInt8 := dkwX5_init_0 ++ dktX5_init_1
theorem dksX5_init_0 : cX5_init.data.toList.drop 0 = dktX5_init_0 := by decide +kernel
theorem dksX5_init_1 : cX5_init.data.toList.drop 24 = dktX5_init_1 := dk_seg dksX5_init_0 24 rfl rfl
theorem dX5_init_0 : decode cX5_init 0 = .ok (.aload_n 0, 1) := dk_42 (dk_at dksX5_init_0 0 rfl rfl)
theorem iX5_init_0 {d : Nat} {r S : List MV} {M : MH} {Q : Out → MH → Prop} {o : Option Nat} (k : MW mX5_init d 1 (vr o :: r) (vr o :: S) M Q) : MW mX5_init d 0 (vr o :: r) S M Q := mw_aload_n ⟨dX5_init_0, rfl⟩ rfl k
theorem dX5_init_1 : decode cX5_init 1 = .ok (.aload_n 1, 1) := dk_43 (dk_at dksX5_init_0 1 rfl rfl)
theorem iX5_init_1 {d : Nat} {r S : List MV} {M : MH} {Q : Out → MH → Prop} {w0 : MV} {o : Option Nat} (k : MW mX5_init d 2 (w0 :: vr o :: r) (vr o :: S) M Q) : MW mX5_init d 1 (w0 :: vr o :: r) S M Q := mw_aload_n ⟨dX5_init_1, rfl⟩ rfl k
theorem dX5_init_2 : decode cX5_init 2 = .ok (.putfield 3, 3) := dk_181 0 3 (dk_at dksX5_init_0 2 rfl rfl)
theorem iX5_init_2 {d : Nat} {L S : List MV} {M : MH} {Q : Out → MH → Prop} {a : Nat} {o : Option Nat} (hs : (msh M a).1 = 7) (k : MW mX5_init d 5 L S (wR M a 3 o) Q) : MW mX5_init d 2 L (vr o :: vp a :: S) M Q := mw_putR (ci := 7) (k := 3) ⟨dX5_init_2, rfl⟩ ⟨_, rfl, Nat.le_of_ble_eq_true rfl, Or.inr ⟨rfl, rfl, rfl, q237⟩⟩ (Or.inl ⟨_, rfl⟩) hs k
theorem dX5_init_5 : decode cX5_init 5 = .ok (.aload_n 0, 1) := dk_42 (dk_at dksX5_init_0 5 rfl rfl)
theorem iX5_init_5 {d : Nat} {r S : List MV} {M : MH} {Q : Out → MH → Prop} {o : Option Nat} (k : MW mX5_init d 6 (vr o :: r) (vr o :: S) M Q) : MW mX5_init d 5 (vr o :: r) S M Q := mw_aload_n ⟨dX5_init_5, rfl⟩ rfl k
theorem dX5_init_6 : decode cX5_init 6 = .ok (.invokespecial 9, 3) := dk_183 0 9 (dk_at dksX5_init_0 6 rfl rfl)
theorem iX5_init_6 {d : Nat} {L S : List MV} {M : MH} {Q : Out → MH → Prop} {a : Nat} (k : MW mX5_init (d + 1) 9 L S M Q) (h8 : Nat.ble (S.map mcat).sum 8 = true := by rfl) : MW mX5_init (d + 1) 6 L (vp a :: S) M Q := mw_objInit ⟨dX5_init_6, rfl⟩ q232 q125 q126 (Nat.le_of_ble_eq_true h8) k
theorem dX5_init_9 : decode cX5_init 9 = .ok (.aload_n 0, 1) := dk_42 (dk_at dksX5_init_0 9 rfl rfl)
theorem iX5_init_9 {d : Nat} {r S : List MV} {M : MH} {Q : Out → MH → Prop} {o : Option Nat} (k : MW mX5_init d 10 (vr o :: r) (vr o :: S) M Q) : MW mX5_init d 9 (vr o :: r) S M Q := mw_aload_n ⟨dX5_init_9, rfl⟩ rfl k
theorem dX5_init_10 : decode cX5_init 10 = .ok (.sipush 4096, 3) := dk_17 16 0 (dk_at dksX5_init_0 10 rfl rfl)
theorem iX5_init_10 {d : Nat} {L S : List MV} {M : MH} {Q : Out → MH → Prop}  (k : MW mX5_init d 13 (L) (vi 4096 :: S) M Q) : MW mX5_init d 10 (L) S M Q := mw_sipush ⟨dX5_init_10, rfl⟩ (by decide) k
theorem dX5_init_13 : decode cX5_init 13 = .ok (.newarray .int, 2) := dk_188_10 (dk_at dksX5_init_0 13 rfl rfl)
theorem iX5_init_13 {d : Nat} {L S : List MV} {M : MH} {Q : Out → MH → Prop} {n : Nat} {z : Int} (hi : z = (n : Int)) (hn : n ≤ 100000) (hcap : mhn M + 1 ≤ mNC) (hcas : mhs M + n ≤ mNS) (k : MW mX5_init d 15 L (vp (mhn M) :: S) (wN M 100 n) Q) : MW mX5_init d 13 L (vi z :: S) M Q := mw_newarr (ak := 0) ⟨dX5_init_13, rfl⟩ rfl (by decide) q181 hi hn hcap hcas k
theorem dX5_init_15 : decode cX5_init 15 = .ok (.putfield 15, 3) := dk_181 0 15 (dk_at dksX5_init_0 15 rfl rfl)
theorem iX5_init_15 {d : Nat} {L S : List MV} {M : MH} {Q : Out → MH → Prop} {a : Nat} {o : Option Nat} (hs : (msh M a).1 = 7) (k : MW mX5_init d 18 L S (wR M a 0 o) Q) : MW mX5_init d 15 L (vr o :: vp a :: S) M Q := mw_putR (ci := 7) (k := 0) ⟨dX5_init_15, rfl⟩ ⟨_, rfl, Nat.le_of_ble_eq_true rfl, Or.inr ⟨rfl, rfl, rfl, q233⟩⟩ (Or.inr ⟨_, rfl⟩) hs k
theorem dX5_init_18 : decode cX5_init 18 = .ok (.aload_n 0, 1) := dk_42 (dk_at dksX5_init_0 18 rfl rfl)
theorem iX5_init_18 {d : Nat} {r S : List MV} {M : MH} {Q : Out → MH → Prop} {o : Option Nat} (k : MW mX5_init d 19 (vr o :: r) (vr o :: S) M Q) : MW mX5_init d 18 (vr o :: r) S M Q := mw_aload_n ⟨dX5_init_18, rfl⟩ rfl k
theorem dX5_init_19 : decode cX5_init 19 = .ok (.sipush 4096, 3) := dk_17 16 0 (dk_at dksX5_init_0 19 rfl rfl)
theorem iX5_init_19 {d : Nat} {L S : List MV} {M : MH} {Q : Out → MH → Prop}  (k : MW mX5_init d 22 (L) (vi 4096 :: S) M Q) : MW mX5_init d 19 (L) S M Q := mw_sipush ⟨dX5_init_19, rfl⟩ (by decide) k
theorem dX5_init_22 : decode cX5_init 22 = .ok (.newarray .int, 2) := dk_188_10 (dk_at dksX5_init_0 22 rfl rfl)
theorem iX5_init_22 {d : Nat} {L S : List MV} {M : MH} {Q : Out → MH → Prop} {n : Nat} {z : Int} (hi : z = (n : Int)) (hn : n ≤ 100000) (hcap : mhn M + 1 ≤ mNC) (hcas : mhs M + n ≤ mNS) (k : MW mX5_init d 24 L (vp (mhn M) :: S) (wN M 100 n) Q) : MW mX5_init d 22 L (vi z :: S) M Q := mw_newarr (ak := 0) ⟨dX5_init_22, rfl⟩ rfl (by decide) q181 hi hn hcap hcas k
theorem dX5_init_24 : decode cX5_init 24 = .ok (.putfield 19, 3) := dk_181 0 19 (dk_at dksX5_init_1 0 rfl rfl)
theorem iX5_init_24 {d : Nat} {L S : List MV} {M : MH} {Q : Out → MH → Prop} {a : Nat} {o : Option Nat} (hs : (msh M a).1 = 7) (k : MW mX5_init d 27 L S (wR M a 1 o) Q) : MW mX5_init d 24 L (vr o :: vp a :: S) M Q := mw_putR (ci := 7) (k := 1) ⟨dX5_init_24, rfl⟩ ⟨_, rfl, Nat.le_of_ble_eq_true rfl, Or.inr ⟨rfl, rfl, rfl, q235⟩⟩ (Or.inr ⟨_, rfl⟩) hs k
theorem dX5_init_27 : decode cX5_init 27 = .ok (.return_, 1) := dk_177 (dk_at dksX5_init_1 3 rfl rfl)
theorem iX5_init_27 {d : Nat} {L : List MV} {M : MH} {P : MH → Prop} (hq : P M) : MW mX5_init d 27 L [] M (Rv P) := mw_retv ⟨dX5_init_27, rfl⟩ rfl hq
/-! X5_runs -/
def dkwX5_runs_2 : List UInt8 := [162, 0, 19, 42, 42, 180, 0, 19, 27, 46, 182, 0, 34, 132, 1, 1, 167, 255, 235, 42, 176]
abbrev dktX5_runs_2 : List UInt8 := dkwX5_runs_2 ++ []
def dkwX5_runs_1 : List UInt8 := [167, 255, 235, 42, 3, 181, 0, 22, 42, 42, 182, 0, 26, 3, 182, 0, 30, 3, 60, 27, 42, 180, 0, 22]
abbrev dktX5_runs_1 : List UInt8 := dkwX5_runs_1 ++ dktX5_runs_2
def dkwX5_runs_0 : List UInt8 := [3, 60, 27, 42, 180, 0, 15, 190, 162, 0, 18, 42, 180, 0, 15, 27, 17, 3, 232, 79, 132, 1, 1]
abbrev dktX5_runs_0 : List UInt8 := dkwX5_runs_0 ++ dktX5_runs_1
theorem dksX5_runs_0 : cX5_runs.data.toList.drop 0 = dktX5_runs_0 := by decide +kernel
theorem dksX5_runs_1 : cX5_runs.data.toList.drop 23 = dktX5_runs_1 := dk_seg dksX5_runs_0 23 rfl rfl
theorem dksX5_runs_2 : cX5_runs.data.toList.drop 47 = dktX5_runs_2 := dk_seg dksX5_runs_1 24 rfl rfl
theorem dX5_runs_0 : decode cX5_runs 0 = .ok (.iconst 0, 1) := dk_3 (dk_at dksX5_runs_0 0 rfl rfl)
theorem iX5_runs_0 {d : Nat} {L S : List MV} {M : MH} {Q : Out → MH → Prop}  (k : MW mX5_runs d 1 (L) (vi 0 :: S) M Q) : MW mX5_runs d 0 (L) S M Q := mw_iconst ⟨dX5_runs_0, rfl⟩ k
theorem dX5_runs_1 : decode cX5_runs 1 = .ok (.istore_n 1, 1) := dk_60 (dk_at dksX5_runs_0 1 rfl rfl)
theorem iX5_runs_1 {d : Nat} {r S : List MV} {M : MH} {Q : Out → MH → Prop} {w0 : MV} {z : Int} {v : MV} (k : MW mX5_runs d 2 (w0 :: vi z :: r) S M Q) (hok : okSt (w0 :: v :: r) 1 = true := by rfl) : MW mX5_runs d 1 (w0 :: v :: r) (vi z :: S) M Q := mw_istore_n (i := 1) ⟨dX5_runs_1, rfl⟩ rfl (Nat.le_of_ble_eq_true rfl) hok k
theorem dX5_runs_2 : decode cX5_runs 2 = .ok (.iload_n 1, 1) := dk_27 (dk_at dksX5_runs_0 2 rfl rfl)
theorem iX5_runs_2 {d : Nat} {r S : List MV} {M : MH} {Q : Out → MH → Prop} {w0 : MV} {z : Int} (k : MW mX5_runs d 3 (w0 :: vi z :: r) (vi z :: S) M Q) : MW mX5_runs d 2 (w0 :: vi z :: r) S M Q := mw_iload_n ⟨dX5_runs_2, rfl⟩ rfl k
theorem dX5_runs_3 : decode cX5_runs 3 = .ok (.aload_n 0, 1) := dk_42 (dk_at dksX5_runs_0 3 rfl rfl)
theorem iX5_runs_3 {d : Nat} {r S : List MV} {M : MH} {Q : Out → MH → Prop} {o : Option Nat} (k : MW mX5_runs d 4 (vr o :: r) (vr o :: S) M Q) : MW mX5_runs d 3 (vr o :: r) S M Q := mw_aload_n ⟨dX5_runs_3, rfl⟩ rfl k
theorem dX5_runs_4 : decode cX5_runs 4 = .ok (.getfield 15, 3) := dk_180 0 15 (dk_at dksX5_runs_0 4 rfl rfl)
theorem iX5_runs_4 {d : Nat} {L S : List MV} {M : MH} {Q : Out → MH → Prop} {a : Nat} {o : Option Nat} (hs : (msh M a).1 = 7) (hr : mrv M a 0 = o) (k : MW mX5_runs d 7 L (vr o :: S) M Q) : MW mX5_runs d 4 L (vp a :: S) M Q := mw_getR (ci := 7) (k := 0) ⟨dX5_runs_4, rfl⟩ ⟨_, rfl, Nat.le_of_ble_eq_true rfl, Or.inl q233⟩ rfl hs hr k
theorem dX5_runs_7 : decode cX5_runs 7 = .ok (.arraylength, 1) := dk_190 (dk_at dksX5_runs_0 7 rfl rfl)
theorem iX5_runs_7 {d : Nat} {L S : List MV} {M : MH} {Q : Out → MH → Prop} {a n ak : Nat} (hs : msh M a = (100 + ak, n)) (k : MW mX5_runs d 8 L (vi n :: S) M Q) : MW mX5_runs d 7 L (vp a :: S) M Q := mw_alen ⟨dX5_runs_7, rfl⟩ hs k
theorem iX5_runs_7E {d : Nat} {L S : List MV} {M : MH} {Q : Out → MH → Prop} (k : MW mX5_runs d 8 L (vi 0 :: S) M Q) : MW mX5_runs d 7 L (vp 0 :: S) M Q := mw_alen0 ⟨dX5_runs_7, rfl⟩ k
theorem dX5_runs_8 : decode cX5_runs 8 = .ok (.if_icmp .ge 18, 3) := dk_162 0 18 (dk_at dksX5_runs_0 8 rfl rfl)
theorem iX5_runs_8 {d : Nat} {L S : List MV} {M : MH} {Q : Out → MH → Prop} {a b : Int} (ha : inR a) (hb : inR b) (kt : b ≤ a → MW mX5_runs d 26 L S M Q) (kf : ¬ b ≤ a → MW mX5_runs d 11 L S M Q) : MW mX5_runs d 8 L (vi b :: vi a :: S) M Q := mw_icmp_ge ⟨dX5_runs_8, rfl⟩ rfl ha hb kt kf
theorem dX5_runs_11 : decode cX5_runs 11 = .ok (.aload_n 0, 1) := dk_42 (dk_at dksX5_runs_0 11 rfl rfl)
theorem iX5_runs_11 {d : Nat} {r S : List MV} {M : MH} {Q : Out → MH → Prop} {o : Option Nat} (k : MW mX5_runs d 12 (vr o :: r) (vr o :: S) M Q) : MW mX5_runs d 11 (vr o :: r) S M Q := mw_aload_n ⟨dX5_runs_11, rfl⟩ rfl k
theorem dX5_runs_12 : decode cX5_runs 12 = .ok (.getfield 15, 3) := dk_180 0 15 (dk_at dksX5_runs_0 12 rfl rfl)
theorem iX5_runs_12 {d : Nat} {L S : List MV} {M : MH} {Q : Out → MH → Prop} {a : Nat} {o : Option Nat} (hs : (msh M a).1 = 7) (hr : mrv M a 0 = o) (k : MW mX5_runs d 15 L (vr o :: S) M Q) : MW mX5_runs d 12 L (vp a :: S) M Q := mw_getR (ci := 7) (k := 0) ⟨dX5_runs_12, rfl⟩ ⟨_, rfl, Nat.le_of_ble_eq_true rfl, Or.inl q233⟩ rfl hs hr k
theorem dX5_runs_15 : decode cX5_runs 15 = .ok (.iload_n 1, 1) := dk_27 (dk_at dksX5_runs_0 15 rfl rfl)
theorem iX5_runs_15 {d : Nat} {r S : List MV} {M : MH} {Q : Out → MH → Prop} {w0 : MV} {z : Int} (k : MW mX5_runs d 16 (w0 :: vi z :: r) (vi z :: S) M Q) : MW mX5_runs d 15 (w0 :: vi z :: r) S M Q := mw_iload_n ⟨dX5_runs_15, rfl⟩ rfl k
theorem dX5_runs_16 : decode cX5_runs 16 = .ok (.sipush 1000, 3) := dk_17 3 232 (dk_at dksX5_runs_0 16 rfl rfl)
theorem iX5_runs_16 {d : Nat} {L S : List MV} {M : MH} {Q : Out → MH → Prop}  (k : MW mX5_runs d 19 (L) (vi 1000 :: S) M Q) : MW mX5_runs d 16 (L) S M Q := mw_sipush ⟨dX5_runs_16, rfl⟩ (by decide) k
theorem dX5_runs_19 : decode cX5_runs 19 = .ok (.iastore, 1) := dk_79 (dk_at dksX5_runs_0 19 rfl rfl)
theorem iX5_runs_19 {d : Nat} {L S : List MV} {M : MH} {Q : Out → MH → Prop} {a n : Nat} {z v : Int} (hs : msh M a = (100, n)) (hi : 0 ≤ z ∧ z < n) (k : MW mX5_runs d 20 L S (wI M a z.toNat v) Q) (hn : Nat.ble n 2147483647 = true := by rfl) : MW mX5_runs d 19 L (vi v :: vi z :: vp a :: S) M Q := mw_iastore ⟨dX5_runs_19, rfl⟩ hs (Nat.le_of_ble_eq_true hn) hi k
theorem dX5_runs_20 : decode cX5_runs 20 = .ok (.iinc 1 1, 3) := dk_132 1 1 (dk_at dksX5_runs_0 20 rfl rfl)
theorem iX5_runs_20 {d : Nat} {r S : List MV} {M : MH} {Q : Out → MH → Prop} {w0 : MV} {z : Int} (k : MW mX5_runs d 23 (w0 :: vi (z + 1) :: r) S M Q) (hok : okSt (w0 :: vi z :: r) 1 = true := by rfl) : MW mX5_runs d 20 (w0 :: vi z :: r) S M Q := mw_iinc (i := 1) ⟨dX5_runs_20, rfl⟩ rfl (Nat.le_of_ble_eq_true rfl) hok k
theorem dX5_runs_23 : decode cX5_runs 23 = .ok (.goto (-21), 3) := dk_167 255 235 (dk_at dksX5_runs_1 0 rfl rfl)
theorem iX5_runs_23 {d : Nat} {L S : List MV} {M : MH} {Q : Out → MH → Prop}  (k : MW mX5_runs d 2 (L) S M Q) : MW mX5_runs d 23 (L) S M Q := mw_goto ⟨dX5_runs_23, rfl⟩ rfl k
theorem dX5_runs_26 : decode cX5_runs 26 = .ok (.aload_n 0, 1) := dk_42 (dk_at dksX5_runs_1 3 rfl rfl)
theorem iX5_runs_26 {d : Nat} {r S : List MV} {M : MH} {Q : Out → MH → Prop} {o : Option Nat} (k : MW mX5_runs d 27 (vr o :: r) (vr o :: S) M Q) : MW mX5_runs d 26 (vr o :: r) S M Q := mw_aload_n ⟨dX5_runs_26, rfl⟩ rfl k
theorem dX5_runs_27 : decode cX5_runs 27 = .ok (.iconst 0, 1) := dk_3 (dk_at dksX5_runs_1 4 rfl rfl)
theorem iX5_runs_27 {d : Nat} {L S : List MV} {M : MH} {Q : Out → MH → Prop}  (k : MW mX5_runs d 28 (L) (vi 0 :: S) M Q) : MW mX5_runs d 27 (L) S M Q := mw_iconst ⟨dX5_runs_27, rfl⟩ k
theorem dX5_runs_28 : decode cX5_runs 28 = .ok (.putfield 22, 3) := dk_181 0 22 (dk_at dksX5_runs_1 5 rfl rfl)
theorem iX5_runs_28 {d : Nat} {L S : List MV} {M : MH} {Q : Out → MH → Prop} {a : Nat} {z : Int} (hs : (msh M a).1 = 7) (k : MW mX5_runs d 31 L S (wI M a 2 z) Q) : MW mX5_runs d 28 L (vi z :: vp a :: S) M Q := mw_putI (ci := 7) (k := 2) ⟨dX5_runs_28, rfl⟩ ⟨_, rfl, Nat.le_of_ble_eq_true rfl, Or.inl ⟨rfl, Or.inl q236⟩⟩ rfl hs k
theorem dX5_runs_31 : decode cX5_runs 31 = .ok (.aload_n 0, 1) := dk_42 (dk_at dksX5_runs_1 8 rfl rfl)
theorem iX5_runs_31 {d : Nat} {r S : List MV} {M : MH} {Q : Out → MH → Prop} {o : Option Nat} (k : MW mX5_runs d 32 (vr o :: r) (vr o :: S) M Q) : MW mX5_runs d 31 (vr o :: r) S M Q := mw_aload_n ⟨dX5_runs_31, rfl⟩ rfl k
theorem dX5_runs_32 : decode cX5_runs 32 = .ok (.aload_n 0, 1) := dk_42 (dk_at dksX5_runs_1 9 rfl rfl)
theorem iX5_runs_32 {d : Nat} {r S : List MV} {M : MH} {Q : Out → MH → Prop} {o : Option Nat} (k : MW mX5_runs d 33 (vr o :: r) (vr o :: S) M Q) : MW mX5_runs d 32 (vr o :: r) S M Q := mw_aload_n ⟨dX5_runs_32, rfl⟩ rfl k
theorem dX5_runs_33 : decode cX5_runs 33 = .ok (.invokevirtual 26, 3) := dk_182 0 26 (dk_at dksX5_runs_1 10 rfl rfl)
theorem iX5_runs_33 {d : Nat} {L S : List MV} {M : MH} {Q : Out → MH → Prop} {b : Nat} {P : Int → MH → Prop} (hs : (msh M b).1 = 7) (hM : MCi mX5_told d [vp b] M P) (k : ∀ z M', P z M' → MW mX5_runs (d + 1) 36 L (vi z :: S) M' Q) (h8 : Nat.ble (S.map mcat).sum 8 = true := by rfl) : MW mX5_runs (d + 1) 33 L (vp b :: S) M Q := mw_calli (as := [vp b]) (site_V (Y' := mX5_told) (n := 0) ⟨dX5_runs_33, rfl⟩ (Or.inl q967) q969 qs40 wX5_told nX5_told hX5_told (cls_of (ci := 7) rfl hs) rfl) kX5_told (Nat.le_of_ble_eq_true h8) hM k
theorem dX5_runs_36 : decode cX5_runs 36 = .ok (.iconst 0, 1) := dk_3 (dk_at dksX5_runs_1 13 rfl rfl)
theorem iX5_runs_36 {d : Nat} {L S : List MV} {M : MH} {Q : Out → MH → Prop}  (k : MW mX5_runs d 37 (L) (vi 0 :: S) M Q) : MW mX5_runs d 36 (L) S M Q := mw_iconst ⟨dX5_runs_36, rfl⟩ k
theorem dX5_runs_37 : decode cX5_runs 37 = .ok (.invokevirtual 30, 3) := dk_182 0 30 (dk_at dksX5_runs_1 14 rfl rfl)
theorem iX5_runs_37 {d : Nat} {L S : List MV} {M : MH} {Q : Out → MH → Prop} {v1 v2 : MV} {b : Nat} {P : MH → Prop} (hs : (msh M b).1 = 7) (hM : MCv mX5_comes d [vp b, v1, v2] M P) (k : ∀ M', P M' → MW mX5_runs (d + 1) 40 L S M' Q) (h8 : Nat.ble (S.map mcat).sum 8 = true := by rfl) : MW mX5_runs (d + 1) 37 L (v2 :: v1 :: vp b :: S) M Q := mw_callv (as := [vp b, v1, v2]) (site_V (Y' := mX5_comes) (n := 2) ⟨dX5_runs_37, rfl⟩ (Or.inl q973) q975 qs41 wX5_comes nX5_comes hX5_comes (cls_of (ci := 7) rfl hs) rfl) kX5_comes (Nat.le_of_ble_eq_true h8) hM k
theorem dX5_runs_40 : decode cX5_runs 40 = .ok (.iconst 0, 1) := dk_3 (dk_at dksX5_runs_1 17 rfl rfl)
theorem iX5_runs_40 {d : Nat} {L S : List MV} {M : MH} {Q : Out → MH → Prop}  (k : MW mX5_runs d 41 (L) (vi 0 :: S) M Q) : MW mX5_runs d 40 (L) S M Q := mw_iconst ⟨dX5_runs_40, rfl⟩ k
theorem dX5_runs_41 : decode cX5_runs 41 = .ok (.istore_n 1, 1) := dk_60 (dk_at dksX5_runs_1 18 rfl rfl)
theorem iX5_runs_41 {d : Nat} {r S : List MV} {M : MH} {Q : Out → MH → Prop} {w0 : MV} {z : Int} {v : MV} (k : MW mX5_runs d 42 (w0 :: vi z :: r) S M Q) (hok : okSt (w0 :: v :: r) 1 = true := by rfl) : MW mX5_runs d 41 (w0 :: v :: r) (vi z :: S) M Q := mw_istore_n (i := 1) ⟨dX5_runs_41, rfl⟩ rfl (Nat.le_of_ble_eq_true rfl) hok k
theorem dX5_runs_42 : decode cX5_runs 42 = .ok (.iload_n 1, 1) := dk_27 (dk_at dksX5_runs_1 19 rfl rfl)
theorem iX5_runs_42 {d : Nat} {r S : List MV} {M : MH} {Q : Out → MH → Prop} {w0 : MV} {z : Int} (k : MW mX5_runs d 43 (w0 :: vi z :: r) (vi z :: S) M Q) : MW mX5_runs d 42 (w0 :: vi z :: r) S M Q := mw_iload_n ⟨dX5_runs_42, rfl⟩ rfl k
theorem dX5_runs_43 : decode cX5_runs 43 = .ok (.aload_n 0, 1) := dk_42 (dk_at dksX5_runs_1 20 rfl rfl)
theorem iX5_runs_43 {d : Nat} {r S : List MV} {M : MH} {Q : Out → MH → Prop} {o : Option Nat} (k : MW mX5_runs d 44 (vr o :: r) (vr o :: S) M Q) : MW mX5_runs d 43 (vr o :: r) S M Q := mw_aload_n ⟨dX5_runs_43, rfl⟩ rfl k
theorem dX5_runs_44 : decode cX5_runs 44 = .ok (.getfield 22, 3) := dk_180 0 22 (dk_at dksX5_runs_1 21 rfl rfl)
theorem iX5_runs_44 {d : Nat} {L S : List MV} {M : MH} {Q : Out → MH → Prop} {a : Nat} (hs : (msh M a).1 = 7) (k : MW mX5_runs d 47 L (vi (miv M a 2) :: S) M Q) : MW mX5_runs d 44 L (vp a :: S) M Q := mw_getI (ci := 7) (k := 2) ⟨dX5_runs_44, rfl⟩ ⟨_, rfl, Nat.le_of_ble_eq_true rfl, Or.inl q236⟩ rfl hs k
theorem dX5_runs_47 : decode cX5_runs 47 = .ok (.if_icmp .ge 19, 3) := dk_162 0 19 (dk_at dksX5_runs_2 0 rfl rfl)
theorem iX5_runs_47 {d : Nat} {L S : List MV} {M : MH} {Q : Out → MH → Prop} {a b : Int} (ha : inR a) (hb : inR b) (kt : b ≤ a → MW mX5_runs d 66 L S M Q) (kf : ¬ b ≤ a → MW mX5_runs d 50 L S M Q) : MW mX5_runs d 47 L (vi b :: vi a :: S) M Q := mw_icmp_ge ⟨dX5_runs_47, rfl⟩ rfl ha hb kt kf
theorem dX5_runs_50 : decode cX5_runs 50 = .ok (.aload_n 0, 1) := dk_42 (dk_at dksX5_runs_2 3 rfl rfl)
theorem iX5_runs_50 {d : Nat} {r S : List MV} {M : MH} {Q : Out → MH → Prop} {o : Option Nat} (k : MW mX5_runs d 51 (vr o :: r) (vr o :: S) M Q) : MW mX5_runs d 50 (vr o :: r) S M Q := mw_aload_n ⟨dX5_runs_50, rfl⟩ rfl k
theorem dX5_runs_51 : decode cX5_runs 51 = .ok (.aload_n 0, 1) := dk_42 (dk_at dksX5_runs_2 4 rfl rfl)
theorem iX5_runs_51 {d : Nat} {r S : List MV} {M : MH} {Q : Out → MH → Prop} {o : Option Nat} (k : MW mX5_runs d 52 (vr o :: r) (vr o :: S) M Q) : MW mX5_runs d 51 (vr o :: r) S M Q := mw_aload_n ⟨dX5_runs_51, rfl⟩ rfl k
theorem dX5_runs_52 : decode cX5_runs 52 = .ok (.getfield 19, 3) := dk_180 0 19 (dk_at dksX5_runs_2 5 rfl rfl)
theorem iX5_runs_52 {d : Nat} {L S : List MV} {M : MH} {Q : Out → MH → Prop} {a : Nat} {o : Option Nat} (hs : (msh M a).1 = 7) (hr : mrv M a 1 = o) (k : MW mX5_runs d 55 L (vr o :: S) M Q) : MW mX5_runs d 52 L (vp a :: S) M Q := mw_getR (ci := 7) (k := 1) ⟨dX5_runs_52, rfl⟩ ⟨_, rfl, Nat.le_of_ble_eq_true rfl, Or.inl q235⟩ rfl hs hr k
theorem dX5_runs_55 : decode cX5_runs 55 = .ok (.iload_n 1, 1) := dk_27 (dk_at dksX5_runs_2 8 rfl rfl)
theorem iX5_runs_55 {d : Nat} {r S : List MV} {M : MH} {Q : Out → MH → Prop} {w0 : MV} {z : Int} (k : MW mX5_runs d 56 (w0 :: vi z :: r) (vi z :: S) M Q) : MW mX5_runs d 55 (w0 :: vi z :: r) S M Q := mw_iload_n ⟨dX5_runs_55, rfl⟩ rfl k
theorem dX5_runs_56 : decode cX5_runs 56 = .ok (.iaload, 1) := dk_46 (dk_at dksX5_runs_2 9 rfl rfl)
theorem iX5_runs_56 {d : Nat} {L S : List MV} {M : MH} {Q : Out → MH → Prop} {a n : Nat} {z : Int} (hs : msh M a = (100, n)) (hi : 0 ≤ z ∧ z < n) (k : MW mX5_runs d 57 L (vi (miv M a z.toNat) :: S) M Q) (hn : Nat.ble n 2147483647 = true := by rfl) : MW mX5_runs d 56 L (vi z :: vp a :: S) M Q := mw_iaload ⟨dX5_runs_56, rfl⟩ hs (Nat.le_of_ble_eq_true hn) hi k
theorem dX5_runs_57 : decode cX5_runs 57 = .ok (.invokevirtual 34, 3) := dk_182 0 34 (dk_at dksX5_runs_2 10 rfl rfl)
theorem iX5_runs_57 {d : Nat} {L S : List MV} {M : MH} {Q : Out → MH → Prop} {v1 : MV} {b : Nat} {P : MH → Prop} (hs : (msh M b).1 = 7) (hM : MCv mX5_goesOn d [vp b, v1] M P) (k : ∀ M', P M' → MW mX5_runs (d + 1) 60 L S M' Q) (h8 : Nat.ble (S.map mcat).sum 8 = true := by rfl) : MW mX5_runs (d + 1) 57 L (v1 :: vp b :: S) M Q := mw_callv (as := [vp b, v1]) (site_V (Y' := mX5_goesOn) (n := 1) ⟨dX5_runs_57, rfl⟩ (Or.inl q977) q979 qs42 wX5_goesOn nX5_goesOn hX5_goesOn (cls_of (ci := 7) rfl hs) rfl) kX5_goesOn (Nat.le_of_ble_eq_true h8) hM k
theorem dX5_runs_60 : decode cX5_runs 60 = .ok (.iinc 1 1, 3) := dk_132 1 1 (dk_at dksX5_runs_2 13 rfl rfl)
theorem iX5_runs_60 {d : Nat} {r S : List MV} {M : MH} {Q : Out → MH → Prop} {w0 : MV} {z : Int} (k : MW mX5_runs d 63 (w0 :: vi (z + 1) :: r) S M Q) (hok : okSt (w0 :: vi z :: r) 1 = true := by rfl) : MW mX5_runs d 60 (w0 :: vi z :: r) S M Q := mw_iinc (i := 1) ⟨dX5_runs_60, rfl⟩ rfl (Nat.le_of_ble_eq_true rfl) hok k
theorem dX5_runs_63 : decode cX5_runs 63 = .ok (.goto (-21), 3) := dk_167 255 235 (dk_at dksX5_runs_2 16 rfl rfl)
theorem iX5_runs_63 {d : Nat} {L S : List MV} {M : MH} {Q : Out → MH → Prop}  (k : MW mX5_runs d 42 (L) S M Q) : MW mX5_runs d 63 (L) S M Q := mw_goto ⟨dX5_runs_63, rfl⟩ rfl k
theorem dX5_runs_66 : decode cX5_runs 66 = .ok (.aload_n 0, 1) := dk_42 (dk_at dksX5_runs_2 19 rfl rfl)
theorem iX5_runs_66 {d : Nat} {r S : List MV} {M : MH} {Q : Out → MH → Prop} {o : Option Nat} (k : MW mX5_runs d 67 (vr o :: r) (vr o :: S) M Q) : MW mX5_runs d 66 (vr o :: r) S M Q := mw_aload_n ⟨dX5_runs_66, rfl⟩ rfl k
theorem dX5_runs_67 : decode cX5_runs 67 = .ok (.areturn, 1) := dk_176 (dk_at dksX5_runs_2 20 rfl rfl)
theorem iX5_runs_67 {d : Nat} {L : List MV} {M : MH} {P : Option Nat → MH → Prop} {o : Option Nat} (hq : P o M) : MW mX5_runs d 67 L [vr o] M (Rr P) := mw_retr ⟨dX5_runs_67, rfl⟩ rfl (Or.inl ⟨_, rfl⟩) hq
/-! X5_told -/
def dkwX5_told_1 : List UInt8 := [180, 0, 45, 6, 28, 104, 120, 128, 60, 132, 2, 1, 167, 255, 224, 27, 172]
abbrev dktX5_told_1 : List UInt8 := dkwX5_told_1 ++ []
def dkwX5_told_0 : List UInt8 := [3, 60, 3, 61, 28, 42, 180, 0, 3, 182, 0, 38, 162, 0, 27, 27, 42, 180, 0, 3, 28, 182, 0, 41]
abbrev dktX5_told_0 : List UInt8 := dkwX5_told_0 ++ dktX5_told_1
theorem dksX5_told_0 : cX5_told.data.toList.drop 0 = dktX5_told_0 := by decide +kernel
theorem dksX5_told_1 : cX5_told.data.toList.drop 24 = dktX5_told_1 := dk_seg dksX5_told_0 24 rfl rfl
theorem dX5_told_0 : decode cX5_told 0 = .ok (.iconst 0, 1) := dk_3 (dk_at dksX5_told_0 0 rfl rfl)
theorem iX5_told_0 {d : Nat} {L S : List MV} {M : MH} {Q : Out → MH → Prop}  (k : MW mX5_told d 1 (L) (vi 0 :: S) M Q) : MW mX5_told d 0 (L) S M Q := mw_iconst ⟨dX5_told_0, rfl⟩ k
theorem dX5_told_1 : decode cX5_told 1 = .ok (.istore_n 1, 1) := dk_60 (dk_at dksX5_told_0 1 rfl rfl)
theorem iX5_told_1 {d : Nat} {r S : List MV} {M : MH} {Q : Out → MH → Prop} {w0 : MV} {z : Int} {v : MV} (k : MW mX5_told d 2 (w0 :: vi z :: r) S M Q) (hok : okSt (w0 :: v :: r) 1 = true := by rfl) : MW mX5_told d 1 (w0 :: v :: r) (vi z :: S) M Q := mw_istore_n (i := 1) ⟨dX5_told_1, rfl⟩ rfl (Nat.le_of_ble_eq_true rfl) hok k
theorem dX5_told_2 : decode cX5_told 2 = .ok (.iconst 0, 1) := dk_3 (dk_at dksX5_told_0 2 rfl rfl)
theorem iX5_told_2 {d : Nat} {L S : List MV} {M : MH} {Q : Out → MH → Prop}  (k : MW mX5_told d 3 (L) (vi 0 :: S) M Q) : MW mX5_told d 2 (L) S M Q := mw_iconst ⟨dX5_told_2, rfl⟩ k
theorem dX5_told_3 : decode cX5_told 3 = .ok (.istore_n 2, 1) := dk_61 (dk_at dksX5_told_0 3 rfl rfl)
theorem iX5_told_3 {d : Nat} {r S : List MV} {M : MH} {Q : Out → MH → Prop} {w0 w1 : MV} {z : Int} {v : MV} (k : MW mX5_told d 4 (w0 :: w1 :: vi z :: r) S M Q) (hok : okSt (w0 :: w1 :: v :: r) 2 = true := by rfl) : MW mX5_told d 3 (w0 :: w1 :: v :: r) (vi z :: S) M Q := mw_istore_n (i := 2) ⟨dX5_told_3, rfl⟩ rfl (Nat.le_of_ble_eq_true rfl) hok k
theorem dX5_told_4 : decode cX5_told 4 = .ok (.iload_n 2, 1) := dk_28 (dk_at dksX5_told_0 4 rfl rfl)
theorem iX5_told_4 {d : Nat} {r S : List MV} {M : MH} {Q : Out → MH → Prop} {w0 w1 : MV} {z : Int} (k : MW mX5_told d 5 (w0 :: w1 :: vi z :: r) (vi z :: S) M Q) : MW mX5_told d 4 (w0 :: w1 :: vi z :: r) S M Q := mw_iload_n ⟨dX5_told_4, rfl⟩ rfl k
theorem dX5_told_5 : decode cX5_told 5 = .ok (.aload_n 0, 1) := dk_42 (dk_at dksX5_told_0 5 rfl rfl)
theorem iX5_told_5 {d : Nat} {r S : List MV} {M : MH} {Q : Out → MH → Prop} {o : Option Nat} (k : MW mX5_told d 6 (vr o :: r) (vr o :: S) M Q) : MW mX5_told d 5 (vr o :: r) S M Q := mw_aload_n ⟨dX5_told_5, rfl⟩ rfl k
theorem dX5_told_6 : decode cX5_told 6 = .ok (.getfield 3, 3) := dk_180 0 3 (dk_at dksX5_told_0 6 rfl rfl)
theorem iX5_told_6 {d : Nat} {L S : List MV} {M : MH} {Q : Out → MH → Prop} {a : Nat} {o : Option Nat} (hs : (msh M a).1 = 7) (hr : mrv M a 3 = o) (k : MW mX5_told d 9 L (vr o :: S) M Q) : MW mX5_told d 6 L (vp a :: S) M Q := mw_getR (ci := 7) (k := 3) ⟨dX5_told_6, rfl⟩ ⟨_, rfl, Nat.le_of_ble_eq_true rfl, Or.inl q237⟩ rfl hs hr k
theorem dX5_told_9 : decode cX5_told 9 = .ok (.invokevirtual 38, 3) := dk_182 0 38 (dk_at dksX5_told_0 9 rfl rfl)
theorem iX5_told_9 {d : Nat} {L S : List MV} {M : MH} {Q : Out → MH → Prop} {b : Nat} {P : Int → MH → Prop} (hs : (msh M b).1 = 0) (hM : MCi mX0_houses d [vp b] M P) (k : ∀ z M', P z M' → MW mX5_told (d + 1) 12 L (vi z :: S) M' Q) (h8 : Nat.ble (S.map mcat).sum 8 = true := by rfl) : MW mX5_told (d + 1) 9 L (vp b :: S) M Q := mw_calli (as := [vp b]) (site_V (Y' := mX0_houses) (n := 0) ⟨dX5_told_9, rfl⟩ (Or.inr ⟨_, lw_b q971 rfl⟩) q633 qs6 wX0_houses nX0_houses hX0_houses (cls_of (ci := 0) rfl hs) rfl) kX0_houses (Nat.le_of_ble_eq_true h8) hM k
theorem dX5_told_12 : decode cX5_told 12 = .ok (.if_icmp .ge 27, 3) := dk_162 0 27 (dk_at dksX5_told_0 12 rfl rfl)
theorem iX5_told_12 {d : Nat} {L S : List MV} {M : MH} {Q : Out → MH → Prop} {a b : Int} (ha : inR a) (hb : inR b) (kt : b ≤ a → MW mX5_told d 39 L S M Q) (kf : ¬ b ≤ a → MW mX5_told d 15 L S M Q) : MW mX5_told d 12 L (vi b :: vi a :: S) M Q := mw_icmp_ge ⟨dX5_told_12, rfl⟩ rfl ha hb kt kf
theorem dX5_told_15 : decode cX5_told 15 = .ok (.iload_n 1, 1) := dk_27 (dk_at dksX5_told_0 15 rfl rfl)
theorem iX5_told_15 {d : Nat} {r S : List MV} {M : MH} {Q : Out → MH → Prop} {w0 : MV} {z : Int} (k : MW mX5_told d 16 (w0 :: vi z :: r) (vi z :: S) M Q) : MW mX5_told d 15 (w0 :: vi z :: r) S M Q := mw_iload_n ⟨dX5_told_15, rfl⟩ rfl k
theorem dX5_told_16 : decode cX5_told 16 = .ok (.aload_n 0, 1) := dk_42 (dk_at dksX5_told_0 16 rfl rfl)
theorem iX5_told_16 {d : Nat} {r S : List MV} {M : MH} {Q : Out → MH → Prop} {o : Option Nat} (k : MW mX5_told d 17 (vr o :: r) (vr o :: S) M Q) : MW mX5_told d 16 (vr o :: r) S M Q := mw_aload_n ⟨dX5_told_16, rfl⟩ rfl k
theorem dX5_told_17 : decode cX5_told 17 = .ok (.getfield 3, 3) := dk_180 0 3 (dk_at dksX5_told_0 17 rfl rfl)
theorem iX5_told_17 {d : Nat} {L S : List MV} {M : MH} {Q : Out → MH → Prop} {a : Nat} {o : Option Nat} (hs : (msh M a).1 = 7) (hr : mrv M a 3 = o) (k : MW mX5_told d 20 L (vr o :: S) M Q) : MW mX5_told d 17 L (vp a :: S) M Q := mw_getR (ci := 7) (k := 3) ⟨dX5_told_17, rfl⟩ ⟨_, rfl, Nat.le_of_ble_eq_true rfl, Or.inl q237⟩ rfl hs hr k
theorem dX5_told_20 : decode cX5_told 20 = .ok (.iload_n 2, 1) := dk_28 (dk_at dksX5_told_0 20 rfl rfl)
theorem iX5_told_20 {d : Nat} {r S : List MV} {M : MH} {Q : Out → MH → Prop} {w0 w1 : MV} {z : Int} (k : MW mX5_told d 21 (w0 :: w1 :: vi z :: r) (vi z :: S) M Q) : MW mX5_told d 20 (w0 :: w1 :: vi z :: r) S M Q := mw_iload_n ⟨dX5_told_20, rfl⟩ rfl k
theorem dX5_told_21 : decode cX5_told 21 = .ok (.invokevirtual 41, 3) := dk_182 0 41 (dk_at dksX5_told_0 21 rfl rfl)
theorem iX5_told_21 {d : Nat} {L S : List MV} {M : MH} {Q : Out → MH → Prop} {v1 : MV} {b : Nat} {P : Option Nat → MH → Prop} (hs : (msh M b).1 = 0) (hM : MCr mX0_house_2 d [vp b, v1] M P) (k : ∀ o M', P o M' → MW mX5_told (d + 1) 24 L (vr o :: S) M' Q) (h8 : Nat.ble (S.map mcat).sum 8 = true := by rfl) : MW mX5_told (d + 1) 21 L (v1 :: vp b :: S) M Q := mw_callr (as := [vp b, v1]) (site_V (Y' := mX0_house_2) (n := 1) ⟨dX5_told_21, rfl⟩ (Or.inr ⟨_, lw_b q972 rfl⟩) q649 qs8 wX0_house_2 nX0_house_2 hX0_house_2 (cls_of (ci := 0) rfl hs) rfl) kX0_house_2 (Nat.le_of_ble_eq_true h8) hM k
theorem dX5_told_24 : decode cX5_told 24 = .ok (.getfield 45, 3) := dk_180 0 45 (dk_at dksX5_told_1 0 rfl rfl)
theorem iX5_told_24 {d : Nat} {L S : List MV} {M : MH} {Q : Out → MH → Prop} {a : Nat} (hs : (msh M a).1 = 4) (k : MW mX5_told d 27 L (vi (miv M a 0) :: S) M Q) : MW mX5_told d 24 L (vp a :: S) M Q := mw_getI (ci := 4) (k := 0) ⟨dX5_told_24, rfl⟩ ⟨_, rfl, Nat.le_of_ble_eq_true rfl, Or.inr (Or.inr ⟨_, lw_b q549 rfl⟩)⟩ rfl hs k
theorem dX5_told_27 : decode cX5_told 27 = .ok (.iconst 3, 1) := dk_6 (dk_at dksX5_told_1 3 rfl rfl)
theorem iX5_told_27 {d : Nat} {L S : List MV} {M : MH} {Q : Out → MH → Prop}  (k : MW mX5_told d 28 (L) (vi 3 :: S) M Q) : MW mX5_told d 27 (L) S M Q := mw_iconst ⟨dX5_told_27, rfl⟩ k
theorem dX5_told_28 : decode cX5_told 28 = .ok (.iload_n 2, 1) := dk_28 (dk_at dksX5_told_1 4 rfl rfl)
theorem iX5_told_28 {d : Nat} {r S : List MV} {M : MH} {Q : Out → MH → Prop} {w0 w1 : MV} {z : Int} (k : MW mX5_told d 29 (w0 :: w1 :: vi z :: r) (vi z :: S) M Q) : MW mX5_told d 28 (w0 :: w1 :: vi z :: r) S M Q := mw_iload_n ⟨dX5_told_28, rfl⟩ rfl k
theorem dX5_told_29 : decode cX5_told 29 = .ok (.imul, 1) := dk_104 (dk_at dksX5_told_1 5 rfl rfl)
theorem iX5_told_29 {d : Nat} {L S : List MV} {M : MH} {Q : Out → MH → Prop} {a b : Int} (k : MW mX5_told d 30 (L) (vi (a * b) :: S) M Q) : MW mX5_told d 29 (L) (vi b :: vi a :: S) M Q := mw_imul ⟨dX5_told_29, rfl⟩ k
theorem dX5_told_30 : decode cX5_told 30 = .ok (.ishl, 1) := dk_120 (dk_at dksX5_told_1 6 rfl rfl)
theorem iX5_told_30 {d : Nat} {L S : List MV} {M : MH} {Q : Out → MH → Prop} {a b : Int} (k : MW mX5_told d 31 (L) (vi (bshl a b) :: S) M Q) : MW mX5_told d 30 (L) (vi b :: vi a :: S) M Q := mw_ishl ⟨dX5_told_30, rfl⟩ k
theorem dX5_told_31 : decode cX5_told 31 = .ok (.ior, 1) := dk_128 (dk_at dksX5_told_1 7 rfl rfl)
theorem iX5_told_31 {d : Nat} {L S : List MV} {M : MH} {Q : Out → MH → Prop} {a b : Int} (k : MW mX5_told d 32 (L) (vi (bor a b) :: S) M Q) : MW mX5_told d 31 (L) (vi b :: vi a :: S) M Q := mw_ior ⟨dX5_told_31, rfl⟩ k
theorem dX5_told_32 : decode cX5_told 32 = .ok (.istore_n 1, 1) := dk_60 (dk_at dksX5_told_1 8 rfl rfl)
theorem iX5_told_32 {d : Nat} {r S : List MV} {M : MH} {Q : Out → MH → Prop} {w0 : MV} {z : Int} {v : MV} (k : MW mX5_told d 33 (w0 :: vi z :: r) S M Q) (hok : okSt (w0 :: v :: r) 1 = true := by rfl) : MW mX5_told d 32 (w0 :: v :: r) (vi z :: S) M Q := mw_istore_n (i := 1) ⟨dX5_told_32, rfl⟩ rfl (Nat.le_of_ble_eq_true rfl) hok k
theorem dX5_told_33 : decode cX5_told 33 = .ok (.iinc 2 1, 3) := dk_132 2 1 (dk_at dksX5_told_1 9 rfl rfl)
theorem iX5_told_33 {d : Nat} {r S : List MV} {M : MH} {Q : Out → MH → Prop} {w0 w1 : MV} {z : Int} (k : MW mX5_told d 36 (w0 :: w1 :: vi (z + 1) :: r) S M Q) (hok : okSt (w0 :: w1 :: vi z :: r) 2 = true := by rfl) : MW mX5_told d 33 (w0 :: w1 :: vi z :: r) S M Q := mw_iinc (i := 2) ⟨dX5_told_33, rfl⟩ rfl (Nat.le_of_ble_eq_true rfl) hok k
theorem dX5_told_36 : decode cX5_told 36 = .ok (.goto (-32), 3) := dk_167 255 224 (dk_at dksX5_told_1 12 rfl rfl)
theorem iX5_told_36 {d : Nat} {L S : List MV} {M : MH} {Q : Out → MH → Prop}  (k : MW mX5_told d 4 (L) S M Q) : MW mX5_told d 36 (L) S M Q := mw_goto ⟨dX5_told_36, rfl⟩ rfl k
theorem dX5_told_39 : decode cX5_told 39 = .ok (.iload_n 1, 1) := dk_27 (dk_at dksX5_told_1 15 rfl rfl)
theorem iX5_told_39 {d : Nat} {r S : List MV} {M : MH} {Q : Out → MH → Prop} {w0 : MV} {z : Int} (k : MW mX5_told d 40 (w0 :: vi z :: r) (vi z :: S) M Q) : MW mX5_told d 39 (w0 :: vi z :: r) S M Q := mw_iload_n ⟨dX5_told_39, rfl⟩ rfl k
theorem dX5_told_40 : decode cX5_told 40 = .ok (.ireturn, 1) := dk_172 (dk_at dksX5_told_1 16 rfl rfl)
theorem iX5_told_40 {d : Nat} {L : List MV} {M : MH} {P : Int → MH → Prop} {z : Int} (hq : P z M) : MW mX5_told d 40 L [vi z] M (Ri P) := mw_reti ⟨dX5_told_40, rfl⟩ rfl hq
/-! X5_comes -/
def dkwX5_comes_1 : List UInt8 := [42, 180, 0, 22, 27, 79, 42, 89, 180, 0, 22, 4, 96, 181, 0, 22, 177]
abbrev dktX5_comes_1 : List UInt8 := dkwX5_comes_1 ++ []
def dkwX5_comes_0 : List UInt8 := [42, 180, 0, 15, 27, 46, 17, 3, 232, 162, 0, 4, 177, 42, 180, 0, 15, 27, 28, 79, 42, 180, 0, 19]
abbrev dktX5_comes_0 : List UInt8 := dkwX5_comes_0 ++ dktX5_comes_1
theorem dksX5_comes_0 : cX5_comes.data.toList.drop 0 = dktX5_comes_0 := by decide +kernel
theorem dksX5_comes_1 : cX5_comes.data.toList.drop 24 = dktX5_comes_1 := dk_seg dksX5_comes_0 24 rfl rfl
theorem dX5_comes_0 : decode cX5_comes 0 = .ok (.aload_n 0, 1) := dk_42 (dk_at dksX5_comes_0 0 rfl rfl)
theorem iX5_comes_0 {d : Nat} {r S : List MV} {M : MH} {Q : Out → MH → Prop} {o : Option Nat} (k : MW mX5_comes d 1 (vr o :: r) (vr o :: S) M Q) : MW mX5_comes d 0 (vr o :: r) S M Q := mw_aload_n ⟨dX5_comes_0, rfl⟩ rfl k
theorem dX5_comes_1 : decode cX5_comes 1 = .ok (.getfield 15, 3) := dk_180 0 15 (dk_at dksX5_comes_0 1 rfl rfl)
theorem iX5_comes_1 {d : Nat} {L S : List MV} {M : MH} {Q : Out → MH → Prop} {a : Nat} {o : Option Nat} (hs : (msh M a).1 = 7) (hr : mrv M a 0 = o) (k : MW mX5_comes d 4 L (vr o :: S) M Q) : MW mX5_comes d 1 L (vp a :: S) M Q := mw_getR (ci := 7) (k := 0) ⟨dX5_comes_1, rfl⟩ ⟨_, rfl, Nat.le_of_ble_eq_true rfl, Or.inl q233⟩ rfl hs hr k
theorem dX5_comes_4 : decode cX5_comes 4 = .ok (.iload_n 1, 1) := dk_27 (dk_at dksX5_comes_0 4 rfl rfl)
theorem iX5_comes_4 {d : Nat} {r S : List MV} {M : MH} {Q : Out → MH → Prop} {w0 : MV} {z : Int} (k : MW mX5_comes d 5 (w0 :: vi z :: r) (vi z :: S) M Q) : MW mX5_comes d 4 (w0 :: vi z :: r) S M Q := mw_iload_n ⟨dX5_comes_4, rfl⟩ rfl k
theorem dX5_comes_5 : decode cX5_comes 5 = .ok (.iaload, 1) := dk_46 (dk_at dksX5_comes_0 5 rfl rfl)
theorem iX5_comes_5 {d : Nat} {L S : List MV} {M : MH} {Q : Out → MH → Prop} {a n : Nat} {z : Int} (hs : msh M a = (100, n)) (hi : 0 ≤ z ∧ z < n) (k : MW mX5_comes d 6 L (vi (miv M a z.toNat) :: S) M Q) (hn : Nat.ble n 2147483647 = true := by rfl) : MW mX5_comes d 5 L (vi z :: vp a :: S) M Q := mw_iaload ⟨dX5_comes_5, rfl⟩ hs (Nat.le_of_ble_eq_true hn) hi k
theorem dX5_comes_6 : decode cX5_comes 6 = .ok (.sipush 1000, 3) := dk_17 3 232 (dk_at dksX5_comes_0 6 rfl rfl)
theorem iX5_comes_6 {d : Nat} {L S : List MV} {M : MH} {Q : Out → MH → Prop}  (k : MW mX5_comes d 9 (L) (vi 1000 :: S) M Q) : MW mX5_comes d 6 (L) S M Q := mw_sipush ⟨dX5_comes_6, rfl⟩ (by decide) k
theorem dX5_comes_9 : decode cX5_comes 9 = .ok (.if_icmp .ge 4, 3) := dk_162 0 4 (dk_at dksX5_comes_0 9 rfl rfl)
theorem iX5_comes_9 {d : Nat} {L S : List MV} {M : MH} {Q : Out → MH → Prop} {a b : Int} (ha : inR a) (hb : inR b) (kt : b ≤ a → MW mX5_comes d 13 L S M Q) (kf : ¬ b ≤ a → MW mX5_comes d 12 L S M Q) : MW mX5_comes d 9 L (vi b :: vi a :: S) M Q := mw_icmp_ge ⟨dX5_comes_9, rfl⟩ rfl ha hb kt kf
theorem dX5_comes_12 : decode cX5_comes 12 = .ok (.return_, 1) := dk_177 (dk_at dksX5_comes_0 12 rfl rfl)
theorem iX5_comes_12 {d : Nat} {L : List MV} {M : MH} {P : MH → Prop} (hq : P M) : MW mX5_comes d 12 L [] M (Rv P) := mw_retv ⟨dX5_comes_12, rfl⟩ rfl hq
theorem dX5_comes_13 : decode cX5_comes 13 = .ok (.aload_n 0, 1) := dk_42 (dk_at dksX5_comes_0 13 rfl rfl)
theorem iX5_comes_13 {d : Nat} {r S : List MV} {M : MH} {Q : Out → MH → Prop} {o : Option Nat} (k : MW mX5_comes d 14 (vr o :: r) (vr o :: S) M Q) : MW mX5_comes d 13 (vr o :: r) S M Q := mw_aload_n ⟨dX5_comes_13, rfl⟩ rfl k
theorem dX5_comes_14 : decode cX5_comes 14 = .ok (.getfield 15, 3) := dk_180 0 15 (dk_at dksX5_comes_0 14 rfl rfl)
theorem iX5_comes_14 {d : Nat} {L S : List MV} {M : MH} {Q : Out → MH → Prop} {a : Nat} {o : Option Nat} (hs : (msh M a).1 = 7) (hr : mrv M a 0 = o) (k : MW mX5_comes d 17 L (vr o :: S) M Q) : MW mX5_comes d 14 L (vp a :: S) M Q := mw_getR (ci := 7) (k := 0) ⟨dX5_comes_14, rfl⟩ ⟨_, rfl, Nat.le_of_ble_eq_true rfl, Or.inl q233⟩ rfl hs hr k
theorem dX5_comes_17 : decode cX5_comes 17 = .ok (.iload_n 1, 1) := dk_27 (dk_at dksX5_comes_0 17 rfl rfl)
theorem iX5_comes_17 {d : Nat} {r S : List MV} {M : MH} {Q : Out → MH → Prop} {w0 : MV} {z : Int} (k : MW mX5_comes d 18 (w0 :: vi z :: r) (vi z :: S) M Q) : MW mX5_comes d 17 (w0 :: vi z :: r) S M Q := mw_iload_n ⟨dX5_comes_17, rfl⟩ rfl k
theorem dX5_comes_18 : decode cX5_comes 18 = .ok (.iload_n 2, 1) := dk_28 (dk_at dksX5_comes_0 18 rfl rfl)
theorem iX5_comes_18 {d : Nat} {r S : List MV} {M : MH} {Q : Out → MH → Prop} {w0 w1 : MV} {z : Int} (k : MW mX5_comes d 19 (w0 :: w1 :: vi z :: r) (vi z :: S) M Q) : MW mX5_comes d 18 (w0 :: w1 :: vi z :: r) S M Q := mw_iload_n ⟨dX5_comes_18, rfl⟩ rfl k
theorem dX5_comes_19 : decode cX5_comes 19 = .ok (.iastore, 1) := dk_79 (dk_at dksX5_comes_0 19 rfl rfl)
theorem iX5_comes_19 {d : Nat} {L S : List MV} {M : MH} {Q : Out → MH → Prop} {a n : Nat} {z v : Int} (hs : msh M a = (100, n)) (hi : 0 ≤ z ∧ z < n) (k : MW mX5_comes d 20 L S (wI M a z.toNat v) Q) (hn : Nat.ble n 2147483647 = true := by rfl) : MW mX5_comes d 19 L (vi v :: vi z :: vp a :: S) M Q := mw_iastore ⟨dX5_comes_19, rfl⟩ hs (Nat.le_of_ble_eq_true hn) hi k
theorem dX5_comes_20 : decode cX5_comes 20 = .ok (.aload_n 0, 1) := dk_42 (dk_at dksX5_comes_0 20 rfl rfl)
theorem iX5_comes_20 {d : Nat} {r S : List MV} {M : MH} {Q : Out → MH → Prop} {o : Option Nat} (k : MW mX5_comes d 21 (vr o :: r) (vr o :: S) M Q) : MW mX5_comes d 20 (vr o :: r) S M Q := mw_aload_n ⟨dX5_comes_20, rfl⟩ rfl k
theorem dX5_comes_21 : decode cX5_comes 21 = .ok (.getfield 19, 3) := dk_180 0 19 (dk_at dksX5_comes_0 21 rfl rfl)
theorem iX5_comes_21 {d : Nat} {L S : List MV} {M : MH} {Q : Out → MH → Prop} {a : Nat} {o : Option Nat} (hs : (msh M a).1 = 7) (hr : mrv M a 1 = o) (k : MW mX5_comes d 24 L (vr o :: S) M Q) : MW mX5_comes d 21 L (vp a :: S) M Q := mw_getR (ci := 7) (k := 1) ⟨dX5_comes_21, rfl⟩ ⟨_, rfl, Nat.le_of_ble_eq_true rfl, Or.inl q235⟩ rfl hs hr k
theorem dX5_comes_24 : decode cX5_comes 24 = .ok (.aload_n 0, 1) := dk_42 (dk_at dksX5_comes_1 0 rfl rfl)
theorem iX5_comes_24 {d : Nat} {r S : List MV} {M : MH} {Q : Out → MH → Prop} {o : Option Nat} (k : MW mX5_comes d 25 (vr o :: r) (vr o :: S) M Q) : MW mX5_comes d 24 (vr o :: r) S M Q := mw_aload_n ⟨dX5_comes_24, rfl⟩ rfl k
theorem dX5_comes_25 : decode cX5_comes 25 = .ok (.getfield 22, 3) := dk_180 0 22 (dk_at dksX5_comes_1 1 rfl rfl)
theorem iX5_comes_25 {d : Nat} {L S : List MV} {M : MH} {Q : Out → MH → Prop} {a : Nat} (hs : (msh M a).1 = 7) (k : MW mX5_comes d 28 L (vi (miv M a 2) :: S) M Q) : MW mX5_comes d 25 L (vp a :: S) M Q := mw_getI (ci := 7) (k := 2) ⟨dX5_comes_25, rfl⟩ ⟨_, rfl, Nat.le_of_ble_eq_true rfl, Or.inl q236⟩ rfl hs k
theorem dX5_comes_28 : decode cX5_comes 28 = .ok (.iload_n 1, 1) := dk_27 (dk_at dksX5_comes_1 4 rfl rfl)
theorem iX5_comes_28 {d : Nat} {r S : List MV} {M : MH} {Q : Out → MH → Prop} {w0 : MV} {z : Int} (k : MW mX5_comes d 29 (w0 :: vi z :: r) (vi z :: S) M Q) : MW mX5_comes d 28 (w0 :: vi z :: r) S M Q := mw_iload_n ⟨dX5_comes_28, rfl⟩ rfl k
theorem dX5_comes_29 : decode cX5_comes 29 = .ok (.iastore, 1) := dk_79 (dk_at dksX5_comes_1 5 rfl rfl)
theorem iX5_comes_29 {d : Nat} {L S : List MV} {M : MH} {Q : Out → MH → Prop} {a n : Nat} {z v : Int} (hs : msh M a = (100, n)) (hi : 0 ≤ z ∧ z < n) (k : MW mX5_comes d 30 L S (wI M a z.toNat v) Q) (hn : Nat.ble n 2147483647 = true := by rfl) : MW mX5_comes d 29 L (vi v :: vi z :: vp a :: S) M Q := mw_iastore ⟨dX5_comes_29, rfl⟩ hs (Nat.le_of_ble_eq_true hn) hi k
theorem dX5_comes_30 : decode cX5_comes 30 = .ok (.aload_n 0, 1) := dk_42 (dk_at dksX5_comes_1 6 rfl rfl)
theorem iX5_comes_30 {d : Nat} {r S : List MV} {M : MH} {Q : Out → MH → Prop} {o : Option Nat} (k : MW mX5_comes d 31 (vr o :: r) (vr o :: S) M Q) : MW mX5_comes d 30 (vr o :: r) S M Q := mw_aload_n ⟨dX5_comes_30, rfl⟩ rfl k
theorem dX5_comes_31 : decode cX5_comes 31 = .ok (.dup, 1) := dk_89 (dk_at dksX5_comes_1 7 rfl rfl)
theorem iX5_comes_31 {d : Nat} {L S : List MV} {M : MH} {Q : Out → MH → Prop} {v : MV} (k : MW mX5_comes d 32 L (v :: v :: S) M Q) (hv : mcat v = 1 := by rfl) : MW mX5_comes d 31 L (v :: S) M Q := mw_dup ⟨dX5_comes_31, rfl⟩ hv k
theorem dX5_comes_32 : decode cX5_comes 32 = .ok (.getfield 22, 3) := dk_180 0 22 (dk_at dksX5_comes_1 8 rfl rfl)
theorem iX5_comes_32 {d : Nat} {L S : List MV} {M : MH} {Q : Out → MH → Prop} {a : Nat} (hs : (msh M a).1 = 7) (k : MW mX5_comes d 35 L (vi (miv M a 2) :: S) M Q) : MW mX5_comes d 32 L (vp a :: S) M Q := mw_getI (ci := 7) (k := 2) ⟨dX5_comes_32, rfl⟩ ⟨_, rfl, Nat.le_of_ble_eq_true rfl, Or.inl q236⟩ rfl hs k
theorem dX5_comes_35 : decode cX5_comes 35 = .ok (.iconst 1, 1) := dk_4 (dk_at dksX5_comes_1 11 rfl rfl)
theorem iX5_comes_35 {d : Nat} {L S : List MV} {M : MH} {Q : Out → MH → Prop}  (k : MW mX5_comes d 36 (L) (vi 1 :: S) M Q) : MW mX5_comes d 35 (L) S M Q := mw_iconst ⟨dX5_comes_35, rfl⟩ k
theorem dX5_comes_36 : decode cX5_comes 36 = .ok (.iadd, 1) := dk_96 (dk_at dksX5_comes_1 12 rfl rfl)
theorem iX5_comes_36 {d : Nat} {L S : List MV} {M : MH} {Q : Out → MH → Prop} {a b : Int} (k : MW mX5_comes d 37 (L) (vi (a + b) :: S) M Q) : MW mX5_comes d 36 (L) (vi b :: vi a :: S) M Q := mw_iadd ⟨dX5_comes_36, rfl⟩ k
theorem dX5_comes_37 : decode cX5_comes 37 = .ok (.putfield 22, 3) := dk_181 0 22 (dk_at dksX5_comes_1 13 rfl rfl)
theorem iX5_comes_37 {d : Nat} {L S : List MV} {M : MH} {Q : Out → MH → Prop} {a : Nat} {z : Int} (hs : (msh M a).1 = 7) (k : MW mX5_comes d 40 L S (wI M a 2 z) Q) : MW mX5_comes d 37 L (vi z :: vp a :: S) M Q := mw_putI (ci := 7) (k := 2) ⟨dX5_comes_37, rfl⟩ ⟨_, rfl, Nat.le_of_ble_eq_true rfl, Or.inl ⟨rfl, Or.inl q236⟩⟩ rfl hs k
theorem dX5_comes_40 : decode cX5_comes 40 = .ok (.return_, 1) := dk_177 (dk_at dksX5_comes_1 16 rfl rfl)
theorem iX5_comes_40 {d : Nat} {L : List MV} {M : MH} {P : MH → Prop} (hq : P M) : MW mX5_comes d 40 L [] M (Rv P) := mw_retv ⟨dX5_comes_40, rfl⟩ rfl hq
/-! X5_goesOn -/
def dkwX5_goesOn_7 : List UInt8 := [132, 2, 1, 167, 255, 92, 177]
abbrev dktX5_goesOn_7 : List UInt8 := dkwX5_goesOn_7 ++ []
def dkwX5_goesOn_6 : List UInt8 := [167, 255, 218, 42, 21, 4, 42, 180, 0, 15, 27, 46, 4, 96, 182, 0, 30, 132, 3, 1, 167, 255, 111]
abbrev dktX5_goesOn_6 : List UInt8 := dkwX5_goesOn_6 ++ dktX5_goesOn_7
def dkwX5_goesOn_5 : List UInt8 := [42, 180, 0, 3, 180, 0, 53, 180, 0, 66, 21, 5, 46, 6, 21, 5, 104, 120, 128, 54, 4, 132, 5, 1]
abbrev dktX5_goesOn_5 : List UInt8 := dkwX5_goesOn_5 ++ dktX5_goesOn_6
def dkwX5_goesOn_4 : List UInt8 := [182, 0, 69, 87, 3, 54, 4, 3, 54, 5, 21, 5, 42, 180, 0, 3, 182, 0, 38, 162, 0, 32, 21, 4]
abbrev dktX5_goesOn_4 : List UInt8 := dkwX5_goesOn_4 ++ dktX5_goesOn_5
def dkwX5_goesOn_3 : List UInt8 := [21, 4, 104, 122, 16, 7, 126, 79, 132, 4, 1, 167, 255, 219, 42, 180, 0, 3, 180, 0, 53, 28, 29]
abbrev dktX5_goesOn_3 : List UInt8 := dkwX5_goesOn_3 ++ dktX5_goesOn_4
def dkwX5_goesOn_2 : List UInt8 := [180, 0, 3, 182, 0, 38, 162, 0, 31, 42, 180, 0, 3, 180, 0, 53, 180, 0, 66, 21, 4, 27, 6]
abbrev dktX5_goesOn_2 : List UInt8 := dkwX5_goesOn_2 ++ dktX5_goesOn_3
def dkwX5_goesOn_1 : List UInt8 := [162, 0, 140, 42, 180, 0, 3, 180, 0, 53, 182, 0, 57, 182, 0, 63, 87, 3, 54, 4, 21, 4, 42]
abbrev dktX5_goesOn_1 : List UInt8 := dkwX5_goesOn_1 ++ dktX5_goesOn_2
def dkwX5_goesOn_0 : List UInt8 := [3, 61, 28, 42, 180, 0, 3, 182, 0, 38, 162, 0, 159, 3, 62, 29, 42, 180, 0, 3, 182, 0, 50]
abbrev dktX5_goesOn_0 : List UInt8 := dkwX5_goesOn_0 ++ dktX5_goesOn_1
theorem dksX5_goesOn_0 : cX5_goesOn.data.toList.drop 0 = dktX5_goesOn_0 := by decide +kernel
theorem dksX5_goesOn_1 : cX5_goesOn.data.toList.drop 23 = dktX5_goesOn_1 := dk_seg dksX5_goesOn_0 23 rfl rfl
theorem dksX5_goesOn_2 : cX5_goesOn.data.toList.drop 46 = dktX5_goesOn_2 := dk_seg dksX5_goesOn_1 23 rfl rfl
theorem dksX5_goesOn_3 : cX5_goesOn.data.toList.drop 69 = dktX5_goesOn_3 := dk_seg dksX5_goesOn_2 23 rfl rfl
theorem dksX5_goesOn_4 : cX5_goesOn.data.toList.drop 92 = dktX5_goesOn_4 := dk_seg dksX5_goesOn_3 23 rfl rfl
theorem dksX5_goesOn_5 : cX5_goesOn.data.toList.drop 116 = dktX5_goesOn_5 := dk_seg dksX5_goesOn_4 24 rfl rfl
theorem dksX5_goesOn_6 : cX5_goesOn.data.toList.drop 140 = dktX5_goesOn_6 := dk_seg dksX5_goesOn_5 24 rfl rfl
theorem dksX5_goesOn_7 : cX5_goesOn.data.toList.drop 163 = dktX5_goesOn_7 := dk_seg dksX5_goesOn_6 23 rfl rfl
theorem dX5_goesOn_0 : decode cX5_goesOn 0 = .ok (.iconst 0, 1) := dk_3 (dk_at dksX5_goesOn_0 0 rfl rfl)
theorem iX5_goesOn_0 {d : Nat} {L S : List MV} {M : MH} {Q : Out → MH → Prop}  (k : MW mX5_goesOn d 1 (L) (vi 0 :: S) M Q) : MW mX5_goesOn d 0 (L) S M Q := mw_iconst ⟨dX5_goesOn_0, rfl⟩ k
theorem dX5_goesOn_1 : decode cX5_goesOn 1 = .ok (.istore_n 2, 1) := dk_61 (dk_at dksX5_goesOn_0 1 rfl rfl)
theorem iX5_goesOn_1 {d : Nat} {r S : List MV} {M : MH} {Q : Out → MH → Prop} {w0 w1 : MV} {z : Int} {v : MV} (k : MW mX5_goesOn d 2 (w0 :: w1 :: vi z :: r) S M Q) (hok : okSt (w0 :: w1 :: v :: r) 2 = true := by rfl) : MW mX5_goesOn d 1 (w0 :: w1 :: v :: r) (vi z :: S) M Q := mw_istore_n (i := 2) ⟨dX5_goesOn_1, rfl⟩ rfl (Nat.le_of_ble_eq_true rfl) hok k
theorem dX5_goesOn_2 : decode cX5_goesOn 2 = .ok (.iload_n 2, 1) := dk_28 (dk_at dksX5_goesOn_0 2 rfl rfl)
theorem iX5_goesOn_2 {d : Nat} {r S : List MV} {M : MH} {Q : Out → MH → Prop} {w0 w1 : MV} {z : Int} (k : MW mX5_goesOn d 3 (w0 :: w1 :: vi z :: r) (vi z :: S) M Q) : MW mX5_goesOn d 2 (w0 :: w1 :: vi z :: r) S M Q := mw_iload_n ⟨dX5_goesOn_2, rfl⟩ rfl k
theorem dX5_goesOn_3 : decode cX5_goesOn 3 = .ok (.aload_n 0, 1) := dk_42 (dk_at dksX5_goesOn_0 3 rfl rfl)
theorem iX5_goesOn_3 {d : Nat} {r S : List MV} {M : MH} {Q : Out → MH → Prop} {o : Option Nat} (k : MW mX5_goesOn d 4 (vr o :: r) (vr o :: S) M Q) : MW mX5_goesOn d 3 (vr o :: r) S M Q := mw_aload_n ⟨dX5_goesOn_3, rfl⟩ rfl k
theorem dX5_goesOn_4 : decode cX5_goesOn 4 = .ok (.getfield 3, 3) := dk_180 0 3 (dk_at dksX5_goesOn_0 4 rfl rfl)
theorem iX5_goesOn_4 {d : Nat} {L S : List MV} {M : MH} {Q : Out → MH → Prop} {a : Nat} {o : Option Nat} (hs : (msh M a).1 = 7) (hr : mrv M a 3 = o) (k : MW mX5_goesOn d 7 L (vr o :: S) M Q) : MW mX5_goesOn d 4 L (vp a :: S) M Q := mw_getR (ci := 7) (k := 3) ⟨dX5_goesOn_4, rfl⟩ ⟨_, rfl, Nat.le_of_ble_eq_true rfl, Or.inl q237⟩ rfl hs hr k
theorem dX5_goesOn_7 : decode cX5_goesOn 7 = .ok (.invokevirtual 38, 3) := dk_182 0 38 (dk_at dksX5_goesOn_0 7 rfl rfl)
theorem iX5_goesOn_7 {d : Nat} {L S : List MV} {M : MH} {Q : Out → MH → Prop} {b : Nat} {P : Int → MH → Prop} (hs : (msh M b).1 = 0) (hM : MCi mX0_houses d [vp b] M P) (k : ∀ z M', P z M' → MW mX5_goesOn (d + 1) 10 L (vi z :: S) M' Q) (h8 : Nat.ble (S.map mcat).sum 8 = true := by rfl) : MW mX5_goesOn (d + 1) 7 L (vp b :: S) M Q := mw_calli (as := [vp b]) (site_V (Y' := mX0_houses) (n := 0) ⟨dX5_goesOn_7, rfl⟩ (Or.inr ⟨_, lw_b q971 rfl⟩) q633 qs6 wX0_houses nX0_houses hX0_houses (cls_of (ci := 0) rfl hs) rfl) kX0_houses (Nat.le_of_ble_eq_true h8) hM k
theorem dX5_goesOn_10 : decode cX5_goesOn 10 = .ok (.if_icmp .ge 159, 3) := dk_162 0 159 (dk_at dksX5_goesOn_0 10 rfl rfl)
theorem iX5_goesOn_10 {d : Nat} {L S : List MV} {M : MH} {Q : Out → MH → Prop} {a b : Int} (ha : inR a) (hb : inR b) (kt : b ≤ a → MW mX5_goesOn d 169 L S M Q) (kf : ¬ b ≤ a → MW mX5_goesOn d 13 L S M Q) : MW mX5_goesOn d 10 L (vi b :: vi a :: S) M Q := mw_icmp_ge ⟨dX5_goesOn_10, rfl⟩ rfl ha hb kt kf
theorem dX5_goesOn_13 : decode cX5_goesOn 13 = .ok (.iconst 0, 1) := dk_3 (dk_at dksX5_goesOn_0 13 rfl rfl)
theorem iX5_goesOn_13 {d : Nat} {L S : List MV} {M : MH} {Q : Out → MH → Prop}  (k : MW mX5_goesOn d 14 (L) (vi 0 :: S) M Q) : MW mX5_goesOn d 13 (L) S M Q := mw_iconst ⟨dX5_goesOn_13, rfl⟩ k
theorem dX5_goesOn_14 : decode cX5_goesOn 14 = .ok (.istore_n 3, 1) := dk_62 (dk_at dksX5_goesOn_0 14 rfl rfl)
theorem iX5_goesOn_14 {d : Nat} {r S : List MV} {M : MH} {Q : Out → MH → Prop} {w0 w1 w2 : MV} {z : Int} {v : MV} (k : MW mX5_goesOn d 15 (w0 :: w1 :: w2 :: vi z :: r) S M Q) (hok : okSt (w0 :: w1 :: w2 :: v :: r) 3 = true := by rfl) : MW mX5_goesOn d 14 (w0 :: w1 :: w2 :: v :: r) (vi z :: S) M Q := mw_istore_n (i := 3) ⟨dX5_goesOn_14, rfl⟩ rfl (Nat.le_of_ble_eq_true rfl) hok k
theorem dX5_goesOn_15 : decode cX5_goesOn 15 = .ok (.iload_n 3, 1) := dk_29 (dk_at dksX5_goesOn_0 15 rfl rfl)
theorem iX5_goesOn_15 {d : Nat} {r S : List MV} {M : MH} {Q : Out → MH → Prop} {w0 w1 w2 : MV} {z : Int} (k : MW mX5_goesOn d 16 (w0 :: w1 :: w2 :: vi z :: r) (vi z :: S) M Q) : MW mX5_goesOn d 15 (w0 :: w1 :: w2 :: vi z :: r) S M Q := mw_iload_n ⟨dX5_goesOn_15, rfl⟩ rfl k
theorem dX5_goesOn_16 : decode cX5_goesOn 16 = .ok (.aload_n 0, 1) := dk_42 (dk_at dksX5_goesOn_0 16 rfl rfl)
theorem iX5_goesOn_16 {d : Nat} {r S : List MV} {M : MH} {Q : Out → MH → Prop} {o : Option Nat} (k : MW mX5_goesOn d 17 (vr o :: r) (vr o :: S) M Q) : MW mX5_goesOn d 16 (vr o :: r) S M Q := mw_aload_n ⟨dX5_goesOn_16, rfl⟩ rfl k
theorem dX5_goesOn_17 : decode cX5_goesOn 17 = .ok (.getfield 3, 3) := dk_180 0 3 (dk_at dksX5_goesOn_0 17 rfl rfl)
theorem iX5_goesOn_17 {d : Nat} {L S : List MV} {M : MH} {Q : Out → MH → Prop} {a : Nat} {o : Option Nat} (hs : (msh M a).1 = 7) (hr : mrv M a 3 = o) (k : MW mX5_goesOn d 20 L (vr o :: S) M Q) : MW mX5_goesOn d 17 L (vp a :: S) M Q := mw_getR (ci := 7) (k := 3) ⟨dX5_goesOn_17, rfl⟩ ⟨_, rfl, Nat.le_of_ble_eq_true rfl, Or.inl q237⟩ rfl hs hr k
theorem dX5_goesOn_20 : decode cX5_goesOn 20 = .ok (.invokevirtual 50, 3) := dk_182 0 50 (dk_at dksX5_goesOn_0 20 rfl rfl)
theorem iX5_goesOn_20 {d : Nat} {L S : List MV} {M : MH} {Q : Out → MH → Prop} {b : Nat} {P : Int → MH → Prop} (hs : (msh M b).1 = 0) (hM : MCi mX0_people d [vp b] M P) (k : ∀ z M', P z M' → MW mX5_goesOn (d + 1) 23 L (vi z :: S) M' Q) (h8 : Nat.ble (S.map mcat).sum 8 = true := by rfl) : MW mX5_goesOn (d + 1) 20 L (vp b :: S) M Q := mw_calli (as := [vp b]) (site_V (Y' := mX0_people) (n := 0) ⟨dX5_goesOn_20, rfl⟩ (Or.inr ⟨_, lw_b q981 rfl⟩) q678 qs10 wX0_people nX0_people hX0_people (cls_of (ci := 0) rfl hs) rfl) kX0_people (Nat.le_of_ble_eq_true h8) hM k
theorem dX5_goesOn_23 : decode cX5_goesOn 23 = .ok (.if_icmp .ge 140, 3) := dk_162 0 140 (dk_at dksX5_goesOn_1 0 rfl rfl)
theorem iX5_goesOn_23 {d : Nat} {L S : List MV} {M : MH} {Q : Out → MH → Prop} {a b : Int} (ha : inR a) (hb : inR b) (kt : b ≤ a → MW mX5_goesOn d 163 L S M Q) (kf : ¬ b ≤ a → MW mX5_goesOn d 26 L S M Q) : MW mX5_goesOn d 23 L (vi b :: vi a :: S) M Q := mw_icmp_ge ⟨dX5_goesOn_23, rfl⟩ rfl ha hb kt kf
theorem dX5_goesOn_26 : decode cX5_goesOn 26 = .ok (.aload_n 0, 1) := dk_42 (dk_at dksX5_goesOn_1 3 rfl rfl)
theorem iX5_goesOn_26 {d : Nat} {r S : List MV} {M : MH} {Q : Out → MH → Prop} {o : Option Nat} (k : MW mX5_goesOn d 27 (vr o :: r) (vr o :: S) M Q) : MW mX5_goesOn d 26 (vr o :: r) S M Q := mw_aload_n ⟨dX5_goesOn_26, rfl⟩ rfl k
theorem dX5_goesOn_27 : decode cX5_goesOn 27 = .ok (.getfield 3, 3) := dk_180 0 3 (dk_at dksX5_goesOn_1 4 rfl rfl)
theorem iX5_goesOn_27 {d : Nat} {L S : List MV} {M : MH} {Q : Out → MH → Prop} {a : Nat} {o : Option Nat} (hs : (msh M a).1 = 7) (hr : mrv M a 3 = o) (k : MW mX5_goesOn d 30 L (vr o :: S) M Q) : MW mX5_goesOn d 27 L (vp a :: S) M Q := mw_getR (ci := 7) (k := 3) ⟨dX5_goesOn_27, rfl⟩ ⟨_, rfl, Nat.le_of_ble_eq_true rfl, Or.inl q237⟩ rfl hs hr k
theorem dX5_goesOn_30 : decode cX5_goesOn 30 = .ok (.getfield 53, 3) := dk_180 0 53 (dk_at dksX5_goesOn_1 7 rfl rfl)
theorem iX5_goesOn_30 {d : Nat} {L S : List MV} {M : MH} {Q : Out → MH → Prop} {a : Nat} {o : Option Nat} (hs : (msh M a).1 = 0) (hr : mrv M a 9 = o) (k : MW mX5_goesOn d 33 L (vr o :: S) M Q) : MW mX5_goesOn d 30 L (vp a :: S) M Q := mw_getR (ci := 0) (k := 9) ⟨dX5_goesOn_30, rfl⟩ ⟨_, rfl, Nat.le_of_ble_eq_true rfl, Or.inr (Or.inr ⟨_, lw_b q275 rfl⟩)⟩ rfl hs hr k
theorem dX5_goesOn_33 : decode cX5_goesOn 33 = .ok (.invokevirtual 57, 3) := dk_182 0 57 (dk_at dksX5_goesOn_1 10 rfl rfl)
theorem iX5_goesOn_33 {d : Nat} {L S : List MV} {M : MH} {Q : Out → MH → Prop} {b : Nat} {P : Option Nat → MH → Prop} (hs : (msh M b).1 = 6) (hM : MCr mX4_asTold d [vp b] M P) (k : ∀ o M', P o M' → MW mX5_goesOn (d + 1) 36 L (vr o :: S) M' Q) (h8 : Nat.ble (S.map mcat).sum 8 = true := by rfl) : MW mX5_goesOn (d + 1) 33 L (vp b :: S) M Q := mw_callr (as := [vp b]) (site_V (Y' := mX4_asTold) (n := 0) ⟨dX5_goesOn_33, rfl⟩ (Or.inl q982) q783 q784 wX4_asTold nX4_asTold hX4_asTold (cls_of (ci := 6) rfl hs) rfl) kX4_asTold (Nat.le_of_ble_eq_true h8) hM k
theorem dX5_goesOn_36 : decode cX5_goesOn 36 = .ok (.invokevirtual 63, 3) := dk_182 0 63 (dk_at dksX5_goesOn_1 13 rfl rfl)
theorem iX5_goesOn_36 {d : Nat} {L S : List MV} {M : MH} {Q : Out → MH → Prop} {b : Nat} {P : Option Nat → MH → Prop} (hs : (msh M b).1 = 6) (hM : MCr mX4_forgets d [vp b] M P) (k : ∀ o M', P o M' → MW mX5_goesOn (d + 1) 39 L (vr o :: S) M' Q) (h8 : Nat.ble (S.map mcat).sum 8 = true := by rfl) : MW mX5_goesOn (d + 1) 36 L (vp b :: S) M Q := mw_callr (as := [vp b]) (site_V (Y' := mX4_forgets) (n := 0) ⟨dX5_goesOn_36, rfl⟩ (Or.inl q983) q778 q779 wX4_forgets nX4_forgets hX4_forgets (cls_of (ci := 6) rfl hs) rfl) kX4_forgets (Nat.le_of_ble_eq_true h8) hM k
theorem dX5_goesOn_39 : decode cX5_goesOn 39 = .ok (.pop, 1) := dk_87 (dk_at dksX5_goesOn_1 16 rfl rfl)
theorem iX5_goesOn_39 {d : Nat} {L S : List MV} {M : MH} {Q : Out → MH → Prop} {v : MV} (k : MW mX5_goesOn d 40 L S M Q) (hv : mcat v = 1 := by rfl) : MW mX5_goesOn d 39 L (v :: S) M Q := mw_pop ⟨dX5_goesOn_39, rfl⟩ hv k
theorem dX5_goesOn_40 : decode cX5_goesOn 40 = .ok (.iconst 0, 1) := dk_3 (dk_at dksX5_goesOn_1 17 rfl rfl)
theorem iX5_goesOn_40 {d : Nat} {L S : List MV} {M : MH} {Q : Out → MH → Prop}  (k : MW mX5_goesOn d 41 (L) (vi 0 :: S) M Q) : MW mX5_goesOn d 40 (L) S M Q := mw_iconst ⟨dX5_goesOn_40, rfl⟩ k
theorem dX5_goesOn_41 : decode cX5_goesOn 41 = .ok (.istore 4, 2) := dk_54 4 (dk_at dksX5_goesOn_1 18 rfl rfl)
theorem iX5_goesOn_41 {d : Nat} {r S : List MV} {M : MH} {Q : Out → MH → Prop} {w0 w1 w2 w3 : MV} {z : Int} {v : MV} (k : MW mX5_goesOn d 43 (w0 :: w1 :: w2 :: w3 :: vi z :: r) S M Q) (hok : okSt (w0 :: w1 :: w2 :: w3 :: v :: r) 4 = true := by rfl) : MW mX5_goesOn d 41 (w0 :: w1 :: w2 :: w3 :: v :: r) (vi z :: S) M Q := mw_istore (i := 4) ⟨dX5_goesOn_41, rfl⟩ (Nat.le_of_ble_eq_true rfl) hok k
theorem dX5_goesOn_43 : decode cX5_goesOn 43 = .ok (.iload 4, 2) := dk_21 4 (dk_at dksX5_goesOn_1 20 rfl rfl)
theorem iX5_goesOn_43 {d : Nat} {r S : List MV} {M : MH} {Q : Out → MH → Prop} {w0 w1 w2 w3 : MV} {z : Int} (k : MW mX5_goesOn d 45 (w0 :: w1 :: w2 :: w3 :: vi z :: r) (vi z :: S) M Q) : MW mX5_goesOn d 43 (w0 :: w1 :: w2 :: w3 :: vi z :: r) S M Q := mw_iload ⟨dX5_goesOn_43, rfl⟩ rfl k
theorem dX5_goesOn_45 : decode cX5_goesOn 45 = .ok (.aload_n 0, 1) := dk_42 (dk_at dksX5_goesOn_1 22 rfl rfl)
theorem iX5_goesOn_45 {d : Nat} {r S : List MV} {M : MH} {Q : Out → MH → Prop} {o : Option Nat} (k : MW mX5_goesOn d 46 (vr o :: r) (vr o :: S) M Q) : MW mX5_goesOn d 45 (vr o :: r) S M Q := mw_aload_n ⟨dX5_goesOn_45, rfl⟩ rfl k
theorem dX5_goesOn_46 : decode cX5_goesOn 46 = .ok (.getfield 3, 3) := dk_180 0 3 (dk_at dksX5_goesOn_2 0 rfl rfl)
theorem iX5_goesOn_46 {d : Nat} {L S : List MV} {M : MH} {Q : Out → MH → Prop} {a : Nat} {o : Option Nat} (hs : (msh M a).1 = 7) (hr : mrv M a 3 = o) (k : MW mX5_goesOn d 49 L (vr o :: S) M Q) : MW mX5_goesOn d 46 L (vp a :: S) M Q := mw_getR (ci := 7) (k := 3) ⟨dX5_goesOn_46, rfl⟩ ⟨_, rfl, Nat.le_of_ble_eq_true rfl, Or.inl q237⟩ rfl hs hr k
theorem dX5_goesOn_49 : decode cX5_goesOn 49 = .ok (.invokevirtual 38, 3) := dk_182 0 38 (dk_at dksX5_goesOn_2 3 rfl rfl)
theorem iX5_goesOn_49 {d : Nat} {L S : List MV} {M : MH} {Q : Out → MH → Prop} {b : Nat} {P : Int → MH → Prop} (hs : (msh M b).1 = 0) (hM : MCi mX0_houses d [vp b] M P) (k : ∀ z M', P z M' → MW mX5_goesOn (d + 1) 52 L (vi z :: S) M' Q) (h8 : Nat.ble (S.map mcat).sum 8 = true := by rfl) : MW mX5_goesOn (d + 1) 49 L (vp b :: S) M Q := mw_calli (as := [vp b]) (site_V (Y' := mX0_houses) (n := 0) ⟨dX5_goesOn_49, rfl⟩ (Or.inr ⟨_, lw_b q971 rfl⟩) q633 qs6 wX0_houses nX0_houses hX0_houses (cls_of (ci := 0) rfl hs) rfl) kX0_houses (Nat.le_of_ble_eq_true h8) hM k
theorem dX5_goesOn_52 : decode cX5_goesOn 52 = .ok (.if_icmp .ge 31, 3) := dk_162 0 31 (dk_at dksX5_goesOn_2 6 rfl rfl)
theorem iX5_goesOn_52 {d : Nat} {L S : List MV} {M : MH} {Q : Out → MH → Prop} {a b : Int} (ha : inR a) (hb : inR b) (kt : b ≤ a → MW mX5_goesOn d 83 L S M Q) (kf : ¬ b ≤ a → MW mX5_goesOn d 55 L S M Q) : MW mX5_goesOn d 52 L (vi b :: vi a :: S) M Q := mw_icmp_ge ⟨dX5_goesOn_52, rfl⟩ rfl ha hb kt kf
theorem dX5_goesOn_55 : decode cX5_goesOn 55 = .ok (.aload_n 0, 1) := dk_42 (dk_at dksX5_goesOn_2 9 rfl rfl)
theorem iX5_goesOn_55 {d : Nat} {r S : List MV} {M : MH} {Q : Out → MH → Prop} {o : Option Nat} (k : MW mX5_goesOn d 56 (vr o :: r) (vr o :: S) M Q) : MW mX5_goesOn d 55 (vr o :: r) S M Q := mw_aload_n ⟨dX5_goesOn_55, rfl⟩ rfl k
theorem dX5_goesOn_56 : decode cX5_goesOn 56 = .ok (.getfield 3, 3) := dk_180 0 3 (dk_at dksX5_goesOn_2 10 rfl rfl)
theorem iX5_goesOn_56 {d : Nat} {L S : List MV} {M : MH} {Q : Out → MH → Prop} {a : Nat} {o : Option Nat} (hs : (msh M a).1 = 7) (hr : mrv M a 3 = o) (k : MW mX5_goesOn d 59 L (vr o :: S) M Q) : MW mX5_goesOn d 56 L (vp a :: S) M Q := mw_getR (ci := 7) (k := 3) ⟨dX5_goesOn_56, rfl⟩ ⟨_, rfl, Nat.le_of_ble_eq_true rfl, Or.inl q237⟩ rfl hs hr k
theorem dX5_goesOn_59 : decode cX5_goesOn 59 = .ok (.getfield 53, 3) := dk_180 0 53 (dk_at dksX5_goesOn_2 13 rfl rfl)
theorem iX5_goesOn_59 {d : Nat} {L S : List MV} {M : MH} {Q : Out → MH → Prop} {a : Nat} {o : Option Nat} (hs : (msh M a).1 = 0) (hr : mrv M a 9 = o) (k : MW mX5_goesOn d 62 L (vr o :: S) M Q) : MW mX5_goesOn d 59 L (vp a :: S) M Q := mw_getR (ci := 0) (k := 9) ⟨dX5_goesOn_59, rfl⟩ ⟨_, rfl, Nat.le_of_ble_eq_true rfl, Or.inr (Or.inr ⟨_, lw_b q275 rfl⟩)⟩ rfl hs hr k
theorem dX5_goesOn_62 : decode cX5_goesOn 62 = .ok (.getfield 66, 3) := dk_180 0 66 (dk_at dksX5_goesOn_2 16 rfl rfl)
theorem iX5_goesOn_62 {d : Nat} {L S : List MV} {M : MH} {Q : Out → MH → Prop} {a : Nat} {o : Option Nat} (hs : (msh M a).1 = 6) (hr : mrv M a 1 = o) (k : MW mX5_goesOn d 65 L (vr o :: S) M Q) : MW mX5_goesOn d 62 L (vp a :: S) M Q := mw_getR (ci := 6) (k := 1) ⟨dX5_goesOn_62, rfl⟩ ⟨_, rfl, Nat.le_of_ble_eq_true rfl, Or.inr (Or.inr ⟨_, lw_b q204 rfl⟩)⟩ rfl hs hr k
theorem dX5_goesOn_65 : decode cX5_goesOn 65 = .ok (.iload 4, 2) := dk_21 4 (dk_at dksX5_goesOn_2 19 rfl rfl)
theorem iX5_goesOn_65 {d : Nat} {r S : List MV} {M : MH} {Q : Out → MH → Prop} {w0 w1 w2 w3 : MV} {z : Int} (k : MW mX5_goesOn d 67 (w0 :: w1 :: w2 :: w3 :: vi z :: r) (vi z :: S) M Q) : MW mX5_goesOn d 65 (w0 :: w1 :: w2 :: w3 :: vi z :: r) S M Q := mw_iload ⟨dX5_goesOn_65, rfl⟩ rfl k
theorem dX5_goesOn_67 : decode cX5_goesOn 67 = .ok (.iload_n 1, 1) := dk_27 (dk_at dksX5_goesOn_2 21 rfl rfl)
theorem iX5_goesOn_67 {d : Nat} {r S : List MV} {M : MH} {Q : Out → MH → Prop} {w0 : MV} {z : Int} (k : MW mX5_goesOn d 68 (w0 :: vi z :: r) (vi z :: S) M Q) : MW mX5_goesOn d 67 (w0 :: vi z :: r) S M Q := mw_iload_n ⟨dX5_goesOn_67, rfl⟩ rfl k
theorem dX5_goesOn_68 : decode cX5_goesOn 68 = .ok (.iconst 3, 1) := dk_6 (dk_at dksX5_goesOn_2 22 rfl rfl)
theorem iX5_goesOn_68 {d : Nat} {L S : List MV} {M : MH} {Q : Out → MH → Prop}  (k : MW mX5_goesOn d 69 (L) (vi 3 :: S) M Q) : MW mX5_goesOn d 68 (L) S M Q := mw_iconst ⟨dX5_goesOn_68, rfl⟩ k
theorem dX5_goesOn_69 : decode cX5_goesOn 69 = .ok (.iload 4, 2) := dk_21 4 (dk_at dksX5_goesOn_3 0 rfl rfl)
theorem iX5_goesOn_69 {d : Nat} {r S : List MV} {M : MH} {Q : Out → MH → Prop} {w0 w1 w2 w3 : MV} {z : Int} (k : MW mX5_goesOn d 71 (w0 :: w1 :: w2 :: w3 :: vi z :: r) (vi z :: S) M Q) : MW mX5_goesOn d 69 (w0 :: w1 :: w2 :: w3 :: vi z :: r) S M Q := mw_iload ⟨dX5_goesOn_69, rfl⟩ rfl k
theorem dX5_goesOn_71 : decode cX5_goesOn 71 = .ok (.imul, 1) := dk_104 (dk_at dksX5_goesOn_3 2 rfl rfl)
theorem iX5_goesOn_71 {d : Nat} {L S : List MV} {M : MH} {Q : Out → MH → Prop} {a b : Int} (k : MW mX5_goesOn d 72 (L) (vi (a * b) :: S) M Q) : MW mX5_goesOn d 71 (L) (vi b :: vi a :: S) M Q := mw_imul ⟨dX5_goesOn_71, rfl⟩ k
theorem dX5_goesOn_72 : decode cX5_goesOn 72 = .ok (.ishr, 1) := dk_122 (dk_at dksX5_goesOn_3 3 rfl rfl)
theorem iX5_goesOn_72 {d : Nat} {L S : List MV} {M : MH} {Q : Out → MH → Prop} {a b : Int} (k : MW mX5_goesOn d 73 (L) (vi (bshr a b) :: S) M Q) : MW mX5_goesOn d 72 (L) (vi b :: vi a :: S) M Q := mw_ishr ⟨dX5_goesOn_72, rfl⟩ k
theorem dX5_goesOn_73 : decode cX5_goesOn 73 = .ok (.bipush 7, 2) := dk_16 7 (dk_at dksX5_goesOn_3 4 rfl rfl)
theorem iX5_goesOn_73 {d : Nat} {L S : List MV} {M : MH} {Q : Out → MH → Prop}  (k : MW mX5_goesOn d 75 (L) (vi 7 :: S) M Q) : MW mX5_goesOn d 73 (L) S M Q := mw_bipush ⟨dX5_goesOn_73, rfl⟩ (by decide) k
theorem dX5_goesOn_75 : decode cX5_goesOn 75 = .ok (.iand, 1) := dk_126 (dk_at dksX5_goesOn_3 6 rfl rfl)
theorem iX5_goesOn_75 {d : Nat} {L S : List MV} {M : MH} {Q : Out → MH → Prop} {a b : Int} (k : MW mX5_goesOn d 76 (L) (vi (band a b) :: S) M Q) : MW mX5_goesOn d 75 (L) (vi b :: vi a :: S) M Q := mw_iand ⟨dX5_goesOn_75, rfl⟩ k
theorem dX5_goesOn_76 : decode cX5_goesOn 76 = .ok (.iastore, 1) := dk_79 (dk_at dksX5_goesOn_3 7 rfl rfl)
theorem iX5_goesOn_76 {d : Nat} {L S : List MV} {M : MH} {Q : Out → MH → Prop} {a n : Nat} {z v : Int} (hs : msh M a = (100, n)) (hi : 0 ≤ z ∧ z < n) (k : MW mX5_goesOn d 77 L S (wI M a z.toNat v) Q) (hn : Nat.ble n 2147483647 = true := by rfl) : MW mX5_goesOn d 76 L (vi v :: vi z :: vp a :: S) M Q := mw_iastore ⟨dX5_goesOn_76, rfl⟩ hs (Nat.le_of_ble_eq_true hn) hi k
theorem dX5_goesOn_77 : decode cX5_goesOn 77 = .ok (.iinc 4 1, 3) := dk_132 4 1 (dk_at dksX5_goesOn_3 8 rfl rfl)
theorem iX5_goesOn_77 {d : Nat} {r S : List MV} {M : MH} {Q : Out → MH → Prop} {w0 w1 w2 w3 : MV} {z : Int} (k : MW mX5_goesOn d 80 (w0 :: w1 :: w2 :: w3 :: vi (z + 1) :: r) S M Q) (hok : okSt (w0 :: w1 :: w2 :: w3 :: vi z :: r) 4 = true := by rfl) : MW mX5_goesOn d 77 (w0 :: w1 :: w2 :: w3 :: vi z :: r) S M Q := mw_iinc (i := 4) ⟨dX5_goesOn_77, rfl⟩ rfl (Nat.le_of_ble_eq_true rfl) hok k
theorem dX5_goesOn_80 : decode cX5_goesOn 80 = .ok (.goto (-37), 3) := dk_167 255 219 (dk_at dksX5_goesOn_3 11 rfl rfl)
theorem iX5_goesOn_80 {d : Nat} {L S : List MV} {M : MH} {Q : Out → MH → Prop}  (k : MW mX5_goesOn d 43 (L) S M Q) : MW mX5_goesOn d 80 (L) S M Q := mw_goto ⟨dX5_goesOn_80, rfl⟩ rfl k
theorem dX5_goesOn_83 : decode cX5_goesOn 83 = .ok (.aload_n 0, 1) := dk_42 (dk_at dksX5_goesOn_3 14 rfl rfl)
theorem iX5_goesOn_83 {d : Nat} {r S : List MV} {M : MH} {Q : Out → MH → Prop} {o : Option Nat} (k : MW mX5_goesOn d 84 (vr o :: r) (vr o :: S) M Q) : MW mX5_goesOn d 83 (vr o :: r) S M Q := mw_aload_n ⟨dX5_goesOn_83, rfl⟩ rfl k
theorem dX5_goesOn_84 : decode cX5_goesOn 84 = .ok (.getfield 3, 3) := dk_180 0 3 (dk_at dksX5_goesOn_3 15 rfl rfl)
theorem iX5_goesOn_84 {d : Nat} {L S : List MV} {M : MH} {Q : Out → MH → Prop} {a : Nat} {o : Option Nat} (hs : (msh M a).1 = 7) (hr : mrv M a 3 = o) (k : MW mX5_goesOn d 87 L (vr o :: S) M Q) : MW mX5_goesOn d 84 L (vp a :: S) M Q := mw_getR (ci := 7) (k := 3) ⟨dX5_goesOn_84, rfl⟩ ⟨_, rfl, Nat.le_of_ble_eq_true rfl, Or.inl q237⟩ rfl hs hr k
theorem dX5_goesOn_87 : decode cX5_goesOn 87 = .ok (.getfield 53, 3) := dk_180 0 53 (dk_at dksX5_goesOn_3 18 rfl rfl)
theorem iX5_goesOn_87 {d : Nat} {L S : List MV} {M : MH} {Q : Out → MH → Prop} {a : Nat} {o : Option Nat} (hs : (msh M a).1 = 0) (hr : mrv M a 9 = o) (k : MW mX5_goesOn d 90 L (vr o :: S) M Q) : MW mX5_goesOn d 87 L (vp a :: S) M Q := mw_getR (ci := 0) (k := 9) ⟨dX5_goesOn_87, rfl⟩ ⟨_, rfl, Nat.le_of_ble_eq_true rfl, Or.inr (Or.inr ⟨_, lw_b q275 rfl⟩)⟩ rfl hs hr k
theorem dX5_goesOn_90 : decode cX5_goesOn 90 = .ok (.iload_n 2, 1) := dk_28 (dk_at dksX5_goesOn_3 21 rfl rfl)
theorem iX5_goesOn_90 {d : Nat} {r S : List MV} {M : MH} {Q : Out → MH → Prop} {w0 w1 : MV} {z : Int} (k : MW mX5_goesOn d 91 (w0 :: w1 :: vi z :: r) (vi z :: S) M Q) : MW mX5_goesOn d 90 (w0 :: w1 :: vi z :: r) S M Q := mw_iload_n ⟨dX5_goesOn_90, rfl⟩ rfl k
theorem dX5_goesOn_91 : decode cX5_goesOn 91 = .ok (.iload_n 3, 1) := dk_29 (dk_at dksX5_goesOn_3 22 rfl rfl)
theorem iX5_goesOn_91 {d : Nat} {r S : List MV} {M : MH} {Q : Out → MH → Prop} {w0 w1 w2 : MV} {z : Int} (k : MW mX5_goesOn d 92 (w0 :: w1 :: w2 :: vi z :: r) (vi z :: S) M Q) : MW mX5_goesOn d 91 (w0 :: w1 :: w2 :: vi z :: r) S M Q := mw_iload_n ⟨dX5_goesOn_91, rfl⟩ rfl k
theorem dX5_goesOn_92 : decode cX5_goesOn 92 = .ok (.invokevirtual 69, 3) := dk_182 0 69 (dk_at dksX5_goesOn_4 0 rfl rfl)
theorem iX5_goesOn_92 {d : Nat} {L S : List MV} {M : MH} {Q : Out → MH → Prop} {v1 v2 : MV} {b : Nat} {P : Int → MH → Prop} (hs : (msh M b).1 = 6) (hM : MCi mX4_sells d [vp b, v1, v2] M P) (k : ∀ z M', P z M' → MW mX5_goesOn (d + 1) 95 L (vi z :: S) M' Q) (h8 : Nat.ble (S.map mcat).sum 8 = true := by rfl) : MW mX5_goesOn (d + 1) 92 L (v2 :: v1 :: vp b :: S) M Q := mw_calli (as := [vp b, v1, v2]) (site_V (Y' := mX4_sells) (n := 2) ⟨dX5_goesOn_92, rfl⟩ (Or.inl q984) q793 q794 wX4_sells nX4_sells hX4_sells (cls_of (ci := 6) rfl hs) rfl) kX4_sells (Nat.le_of_ble_eq_true h8) hM k
theorem dX5_goesOn_95 : decode cX5_goesOn 95 = .ok (.pop, 1) := dk_87 (dk_at dksX5_goesOn_4 3 rfl rfl)
theorem iX5_goesOn_95 {d : Nat} {L S : List MV} {M : MH} {Q : Out → MH → Prop} {v : MV} (k : MW mX5_goesOn d 96 L S M Q) (hv : mcat v = 1 := by rfl) : MW mX5_goesOn d 95 L (v :: S) M Q := mw_pop ⟨dX5_goesOn_95, rfl⟩ hv k
theorem dX5_goesOn_96 : decode cX5_goesOn 96 = .ok (.iconst 0, 1) := dk_3 (dk_at dksX5_goesOn_4 4 rfl rfl)
theorem iX5_goesOn_96 {d : Nat} {L S : List MV} {M : MH} {Q : Out → MH → Prop}  (k : MW mX5_goesOn d 97 (L) (vi 0 :: S) M Q) : MW mX5_goesOn d 96 (L) S M Q := mw_iconst ⟨dX5_goesOn_96, rfl⟩ k
theorem dX5_goesOn_97 : decode cX5_goesOn 97 = .ok (.istore 4, 2) := dk_54 4 (dk_at dksX5_goesOn_4 5 rfl rfl)
theorem iX5_goesOn_97 {d : Nat} {r S : List MV} {M : MH} {Q : Out → MH → Prop} {w0 w1 w2 w3 : MV} {z : Int} {v : MV} (k : MW mX5_goesOn d 99 (w0 :: w1 :: w2 :: w3 :: vi z :: r) S M Q) (hok : okSt (w0 :: w1 :: w2 :: w3 :: v :: r) 4 = true := by rfl) : MW mX5_goesOn d 97 (w0 :: w1 :: w2 :: w3 :: v :: r) (vi z :: S) M Q := mw_istore (i := 4) ⟨dX5_goesOn_97, rfl⟩ (Nat.le_of_ble_eq_true rfl) hok k
theorem dX5_goesOn_99 : decode cX5_goesOn 99 = .ok (.iconst 0, 1) := dk_3 (dk_at dksX5_goesOn_4 7 rfl rfl)
theorem iX5_goesOn_99 {d : Nat} {L S : List MV} {M : MH} {Q : Out → MH → Prop}  (k : MW mX5_goesOn d 100 (L) (vi 0 :: S) M Q) : MW mX5_goesOn d 99 (L) S M Q := mw_iconst ⟨dX5_goesOn_99, rfl⟩ k
theorem dX5_goesOn_100 : decode cX5_goesOn 100 = .ok (.istore 5, 2) := dk_54 5 (dk_at dksX5_goesOn_4 8 rfl rfl)
theorem iX5_goesOn_100 {d : Nat} {r S : List MV} {M : MH} {Q : Out → MH → Prop} {w0 w1 w2 w3 w4 : MV} {z : Int} {v : MV} (k : MW mX5_goesOn d 102 (w0 :: w1 :: w2 :: w3 :: w4 :: vi z :: r) S M Q) (hok : okSt (w0 :: w1 :: w2 :: w3 :: w4 :: v :: r) 5 = true := by rfl) : MW mX5_goesOn d 100 (w0 :: w1 :: w2 :: w3 :: w4 :: v :: r) (vi z :: S) M Q := mw_istore (i := 5) ⟨dX5_goesOn_100, rfl⟩ (Nat.le_of_ble_eq_true rfl) hok k
theorem dX5_goesOn_102 : decode cX5_goesOn 102 = .ok (.iload 5, 2) := dk_21 5 (dk_at dksX5_goesOn_4 10 rfl rfl)
theorem iX5_goesOn_102 {d : Nat} {r S : List MV} {M : MH} {Q : Out → MH → Prop} {w0 w1 w2 w3 w4 : MV} {z : Int} (k : MW mX5_goesOn d 104 (w0 :: w1 :: w2 :: w3 :: w4 :: vi z :: r) (vi z :: S) M Q) : MW mX5_goesOn d 102 (w0 :: w1 :: w2 :: w3 :: w4 :: vi z :: r) S M Q := mw_iload ⟨dX5_goesOn_102, rfl⟩ rfl k
theorem dX5_goesOn_104 : decode cX5_goesOn 104 = .ok (.aload_n 0, 1) := dk_42 (dk_at dksX5_goesOn_4 12 rfl rfl)
theorem iX5_goesOn_104 {d : Nat} {r S : List MV} {M : MH} {Q : Out → MH → Prop} {o : Option Nat} (k : MW mX5_goesOn d 105 (vr o :: r) (vr o :: S) M Q) : MW mX5_goesOn d 104 (vr o :: r) S M Q := mw_aload_n ⟨dX5_goesOn_104, rfl⟩ rfl k
theorem dX5_goesOn_105 : decode cX5_goesOn 105 = .ok (.getfield 3, 3) := dk_180 0 3 (dk_at dksX5_goesOn_4 13 rfl rfl)
theorem iX5_goesOn_105 {d : Nat} {L S : List MV} {M : MH} {Q : Out → MH → Prop} {a : Nat} {o : Option Nat} (hs : (msh M a).1 = 7) (hr : mrv M a 3 = o) (k : MW mX5_goesOn d 108 L (vr o :: S) M Q) : MW mX5_goesOn d 105 L (vp a :: S) M Q := mw_getR (ci := 7) (k := 3) ⟨dX5_goesOn_105, rfl⟩ ⟨_, rfl, Nat.le_of_ble_eq_true rfl, Or.inl q237⟩ rfl hs hr k
theorem dX5_goesOn_108 : decode cX5_goesOn 108 = .ok (.invokevirtual 38, 3) := dk_182 0 38 (dk_at dksX5_goesOn_4 16 rfl rfl)
theorem iX5_goesOn_108 {d : Nat} {L S : List MV} {M : MH} {Q : Out → MH → Prop} {b : Nat} {P : Int → MH → Prop} (hs : (msh M b).1 = 0) (hM : MCi mX0_houses d [vp b] M P) (k : ∀ z M', P z M' → MW mX5_goesOn (d + 1) 111 L (vi z :: S) M' Q) (h8 : Nat.ble (S.map mcat).sum 8 = true := by rfl) : MW mX5_goesOn (d + 1) 108 L (vp b :: S) M Q := mw_calli (as := [vp b]) (site_V (Y' := mX0_houses) (n := 0) ⟨dX5_goesOn_108, rfl⟩ (Or.inr ⟨_, lw_b q971 rfl⟩) q633 qs6 wX0_houses nX0_houses hX0_houses (cls_of (ci := 0) rfl hs) rfl) kX0_houses (Nat.le_of_ble_eq_true h8) hM k
theorem dX5_goesOn_111 : decode cX5_goesOn 111 = .ok (.if_icmp .ge 32, 3) := dk_162 0 32 (dk_at dksX5_goesOn_4 19 rfl rfl)
theorem iX5_goesOn_111 {d : Nat} {L S : List MV} {M : MH} {Q : Out → MH → Prop} {a b : Int} (ha : inR a) (hb : inR b) (kt : b ≤ a → MW mX5_goesOn d 143 L S M Q) (kf : ¬ b ≤ a → MW mX5_goesOn d 114 L S M Q) : MW mX5_goesOn d 111 L (vi b :: vi a :: S) M Q := mw_icmp_ge ⟨dX5_goesOn_111, rfl⟩ rfl ha hb kt kf
theorem dX5_goesOn_114 : decode cX5_goesOn 114 = .ok (.iload 4, 2) := dk_21 4 (dk_at dksX5_goesOn_4 22 rfl rfl)
theorem iX5_goesOn_114 {d : Nat} {r S : List MV} {M : MH} {Q : Out → MH → Prop} {w0 w1 w2 w3 : MV} {z : Int} (k : MW mX5_goesOn d 116 (w0 :: w1 :: w2 :: w3 :: vi z :: r) (vi z :: S) M Q) : MW mX5_goesOn d 114 (w0 :: w1 :: w2 :: w3 :: vi z :: r) S M Q := mw_iload ⟨dX5_goesOn_114, rfl⟩ rfl k
theorem dX5_goesOn_116 : decode cX5_goesOn 116 = .ok (.aload_n 0, 1) := dk_42 (dk_at dksX5_goesOn_5 0 rfl rfl)
theorem iX5_goesOn_116 {d : Nat} {r S : List MV} {M : MH} {Q : Out → MH → Prop} {o : Option Nat} (k : MW mX5_goesOn d 117 (vr o :: r) (vr o :: S) M Q) : MW mX5_goesOn d 116 (vr o :: r) S M Q := mw_aload_n ⟨dX5_goesOn_116, rfl⟩ rfl k
theorem dX5_goesOn_117 : decode cX5_goesOn 117 = .ok (.getfield 3, 3) := dk_180 0 3 (dk_at dksX5_goesOn_5 1 rfl rfl)
theorem iX5_goesOn_117 {d : Nat} {L S : List MV} {M : MH} {Q : Out → MH → Prop} {a : Nat} {o : Option Nat} (hs : (msh M a).1 = 7) (hr : mrv M a 3 = o) (k : MW mX5_goesOn d 120 L (vr o :: S) M Q) : MW mX5_goesOn d 117 L (vp a :: S) M Q := mw_getR (ci := 7) (k := 3) ⟨dX5_goesOn_117, rfl⟩ ⟨_, rfl, Nat.le_of_ble_eq_true rfl, Or.inl q237⟩ rfl hs hr k
theorem dX5_goesOn_120 : decode cX5_goesOn 120 = .ok (.getfield 53, 3) := dk_180 0 53 (dk_at dksX5_goesOn_5 4 rfl rfl)
theorem iX5_goesOn_120 {d : Nat} {L S : List MV} {M : MH} {Q : Out → MH → Prop} {a : Nat} {o : Option Nat} (hs : (msh M a).1 = 0) (hr : mrv M a 9 = o) (k : MW mX5_goesOn d 123 L (vr o :: S) M Q) : MW mX5_goesOn d 120 L (vp a :: S) M Q := mw_getR (ci := 0) (k := 9) ⟨dX5_goesOn_120, rfl⟩ ⟨_, rfl, Nat.le_of_ble_eq_true rfl, Or.inr (Or.inr ⟨_, lw_b q275 rfl⟩)⟩ rfl hs hr k
theorem dX5_goesOn_123 : decode cX5_goesOn 123 = .ok (.getfield 66, 3) := dk_180 0 66 (dk_at dksX5_goesOn_5 7 rfl rfl)
theorem iX5_goesOn_123 {d : Nat} {L S : List MV} {M : MH} {Q : Out → MH → Prop} {a : Nat} {o : Option Nat} (hs : (msh M a).1 = 6) (hr : mrv M a 1 = o) (k : MW mX5_goesOn d 126 L (vr o :: S) M Q) : MW mX5_goesOn d 123 L (vp a :: S) M Q := mw_getR (ci := 6) (k := 1) ⟨dX5_goesOn_123, rfl⟩ ⟨_, rfl, Nat.le_of_ble_eq_true rfl, Or.inr (Or.inr ⟨_, lw_b q204 rfl⟩)⟩ rfl hs hr k
theorem dX5_goesOn_126 : decode cX5_goesOn 126 = .ok (.iload 5, 2) := dk_21 5 (dk_at dksX5_goesOn_5 10 rfl rfl)
theorem iX5_goesOn_126 {d : Nat} {r S : List MV} {M : MH} {Q : Out → MH → Prop} {w0 w1 w2 w3 w4 : MV} {z : Int} (k : MW mX5_goesOn d 128 (w0 :: w1 :: w2 :: w3 :: w4 :: vi z :: r) (vi z :: S) M Q) : MW mX5_goesOn d 126 (w0 :: w1 :: w2 :: w3 :: w4 :: vi z :: r) S M Q := mw_iload ⟨dX5_goesOn_126, rfl⟩ rfl k
theorem dX5_goesOn_128 : decode cX5_goesOn 128 = .ok (.iaload, 1) := dk_46 (dk_at dksX5_goesOn_5 12 rfl rfl)
theorem iX5_goesOn_128 {d : Nat} {L S : List MV} {M : MH} {Q : Out → MH → Prop} {a n : Nat} {z : Int} (hs : msh M a = (100, n)) (hi : 0 ≤ z ∧ z < n) (k : MW mX5_goesOn d 129 L (vi (miv M a z.toNat) :: S) M Q) (hn : Nat.ble n 2147483647 = true := by rfl) : MW mX5_goesOn d 128 L (vi z :: vp a :: S) M Q := mw_iaload ⟨dX5_goesOn_128, rfl⟩ hs (Nat.le_of_ble_eq_true hn) hi k
theorem dX5_goesOn_129 : decode cX5_goesOn 129 = .ok (.iconst 3, 1) := dk_6 (dk_at dksX5_goesOn_5 13 rfl rfl)
theorem iX5_goesOn_129 {d : Nat} {L S : List MV} {M : MH} {Q : Out → MH → Prop}  (k : MW mX5_goesOn d 130 (L) (vi 3 :: S) M Q) : MW mX5_goesOn d 129 (L) S M Q := mw_iconst ⟨dX5_goesOn_129, rfl⟩ k
theorem dX5_goesOn_130 : decode cX5_goesOn 130 = .ok (.iload 5, 2) := dk_21 5 (dk_at dksX5_goesOn_5 14 rfl rfl)
theorem iX5_goesOn_130 {d : Nat} {r S : List MV} {M : MH} {Q : Out → MH → Prop} {w0 w1 w2 w3 w4 : MV} {z : Int} (k : MW mX5_goesOn d 132 (w0 :: w1 :: w2 :: w3 :: w4 :: vi z :: r) (vi z :: S) M Q) : MW mX5_goesOn d 130 (w0 :: w1 :: w2 :: w3 :: w4 :: vi z :: r) S M Q := mw_iload ⟨dX5_goesOn_130, rfl⟩ rfl k
theorem dX5_goesOn_132 : decode cX5_goesOn 132 = .ok (.imul, 1) := dk_104 (dk_at dksX5_goesOn_5 16 rfl rfl)
theorem iX5_goesOn_132 {d : Nat} {L S : List MV} {M : MH} {Q : Out → MH → Prop} {a b : Int} (k : MW mX5_goesOn d 133 (L) (vi (a * b) :: S) M Q) : MW mX5_goesOn d 132 (L) (vi b :: vi a :: S) M Q := mw_imul ⟨dX5_goesOn_132, rfl⟩ k
theorem dX5_goesOn_133 : decode cX5_goesOn 133 = .ok (.ishl, 1) := dk_120 (dk_at dksX5_goesOn_5 17 rfl rfl)
theorem iX5_goesOn_133 {d : Nat} {L S : List MV} {M : MH} {Q : Out → MH → Prop} {a b : Int} (k : MW mX5_goesOn d 134 (L) (vi (bshl a b) :: S) M Q) : MW mX5_goesOn d 133 (L) (vi b :: vi a :: S) M Q := mw_ishl ⟨dX5_goesOn_133, rfl⟩ k
theorem dX5_goesOn_134 : decode cX5_goesOn 134 = .ok (.ior, 1) := dk_128 (dk_at dksX5_goesOn_5 18 rfl rfl)
theorem iX5_goesOn_134 {d : Nat} {L S : List MV} {M : MH} {Q : Out → MH → Prop} {a b : Int} (k : MW mX5_goesOn d 135 (L) (vi (bor a b) :: S) M Q) : MW mX5_goesOn d 134 (L) (vi b :: vi a :: S) M Q := mw_ior ⟨dX5_goesOn_134, rfl⟩ k
theorem dX5_goesOn_135 : decode cX5_goesOn 135 = .ok (.istore 4, 2) := dk_54 4 (dk_at dksX5_goesOn_5 19 rfl rfl)
theorem iX5_goesOn_135 {d : Nat} {r S : List MV} {M : MH} {Q : Out → MH → Prop} {w0 w1 w2 w3 : MV} {z : Int} {v : MV} (k : MW mX5_goesOn d 137 (w0 :: w1 :: w2 :: w3 :: vi z :: r) S M Q) (hok : okSt (w0 :: w1 :: w2 :: w3 :: v :: r) 4 = true := by rfl) : MW mX5_goesOn d 135 (w0 :: w1 :: w2 :: w3 :: v :: r) (vi z :: S) M Q := mw_istore (i := 4) ⟨dX5_goesOn_135, rfl⟩ (Nat.le_of_ble_eq_true rfl) hok k
theorem dX5_goesOn_137 : decode cX5_goesOn 137 = .ok (.iinc 5 1, 3) := dk_132 5 1 (dk_at dksX5_goesOn_5 21 rfl rfl)
theorem iX5_goesOn_137 {d : Nat} {r S : List MV} {M : MH} {Q : Out → MH → Prop} {w0 w1 w2 w3 w4 : MV} {z : Int} (k : MW mX5_goesOn d 140 (w0 :: w1 :: w2 :: w3 :: w4 :: vi (z + 1) :: r) S M Q) (hok : okSt (w0 :: w1 :: w2 :: w3 :: w4 :: vi z :: r) 5 = true := by rfl) : MW mX5_goesOn d 137 (w0 :: w1 :: w2 :: w3 :: w4 :: vi z :: r) S M Q := mw_iinc (i := 5) ⟨dX5_goesOn_137, rfl⟩ rfl (Nat.le_of_ble_eq_true rfl) hok k
theorem dX5_goesOn_140 : decode cX5_goesOn 140 = .ok (.goto (-38), 3) := dk_167 255 218 (dk_at dksX5_goesOn_6 0 rfl rfl)
theorem iX5_goesOn_140 {d : Nat} {L S : List MV} {M : MH} {Q : Out → MH → Prop}  (k : MW mX5_goesOn d 102 (L) S M Q) : MW mX5_goesOn d 140 (L) S M Q := mw_goto ⟨dX5_goesOn_140, rfl⟩ rfl k
theorem dX5_goesOn_143 : decode cX5_goesOn 143 = .ok (.aload_n 0, 1) := dk_42 (dk_at dksX5_goesOn_6 3 rfl rfl)
theorem iX5_goesOn_143 {d : Nat} {r S : List MV} {M : MH} {Q : Out → MH → Prop} {o : Option Nat} (k : MW mX5_goesOn d 144 (vr o :: r) (vr o :: S) M Q) : MW mX5_goesOn d 143 (vr o :: r) S M Q := mw_aload_n ⟨dX5_goesOn_143, rfl⟩ rfl k
theorem dX5_goesOn_144 : decode cX5_goesOn 144 = .ok (.iload 4, 2) := dk_21 4 (dk_at dksX5_goesOn_6 4 rfl rfl)
theorem iX5_goesOn_144 {d : Nat} {r S : List MV} {M : MH} {Q : Out → MH → Prop} {w0 w1 w2 w3 : MV} {z : Int} (k : MW mX5_goesOn d 146 (w0 :: w1 :: w2 :: w3 :: vi z :: r) (vi z :: S) M Q) : MW mX5_goesOn d 144 (w0 :: w1 :: w2 :: w3 :: vi z :: r) S M Q := mw_iload ⟨dX5_goesOn_144, rfl⟩ rfl k
theorem dX5_goesOn_146 : decode cX5_goesOn 146 = .ok (.aload_n 0, 1) := dk_42 (dk_at dksX5_goesOn_6 6 rfl rfl)
theorem iX5_goesOn_146 {d : Nat} {r S : List MV} {M : MH} {Q : Out → MH → Prop} {o : Option Nat} (k : MW mX5_goesOn d 147 (vr o :: r) (vr o :: S) M Q) : MW mX5_goesOn d 146 (vr o :: r) S M Q := mw_aload_n ⟨dX5_goesOn_146, rfl⟩ rfl k
theorem dX5_goesOn_147 : decode cX5_goesOn 147 = .ok (.getfield 15, 3) := dk_180 0 15 (dk_at dksX5_goesOn_6 7 rfl rfl)
theorem iX5_goesOn_147 {d : Nat} {L S : List MV} {M : MH} {Q : Out → MH → Prop} {a : Nat} {o : Option Nat} (hs : (msh M a).1 = 7) (hr : mrv M a 0 = o) (k : MW mX5_goesOn d 150 L (vr o :: S) M Q) : MW mX5_goesOn d 147 L (vp a :: S) M Q := mw_getR (ci := 7) (k := 0) ⟨dX5_goesOn_147, rfl⟩ ⟨_, rfl, Nat.le_of_ble_eq_true rfl, Or.inl q233⟩ rfl hs hr k
theorem dX5_goesOn_150 : decode cX5_goesOn 150 = .ok (.iload_n 1, 1) := dk_27 (dk_at dksX5_goesOn_6 10 rfl rfl)
theorem iX5_goesOn_150 {d : Nat} {r S : List MV} {M : MH} {Q : Out → MH → Prop} {w0 : MV} {z : Int} (k : MW mX5_goesOn d 151 (w0 :: vi z :: r) (vi z :: S) M Q) : MW mX5_goesOn d 150 (w0 :: vi z :: r) S M Q := mw_iload_n ⟨dX5_goesOn_150, rfl⟩ rfl k
theorem dX5_goesOn_151 : decode cX5_goesOn 151 = .ok (.iaload, 1) := dk_46 (dk_at dksX5_goesOn_6 11 rfl rfl)
theorem iX5_goesOn_151 {d : Nat} {L S : List MV} {M : MH} {Q : Out → MH → Prop} {a n : Nat} {z : Int} (hs : msh M a = (100, n)) (hi : 0 ≤ z ∧ z < n) (k : MW mX5_goesOn d 152 L (vi (miv M a z.toNat) :: S) M Q) (hn : Nat.ble n 2147483647 = true := by rfl) : MW mX5_goesOn d 151 L (vi z :: vp a :: S) M Q := mw_iaload ⟨dX5_goesOn_151, rfl⟩ hs (Nat.le_of_ble_eq_true hn) hi k
theorem dX5_goesOn_152 : decode cX5_goesOn 152 = .ok (.iconst 1, 1) := dk_4 (dk_at dksX5_goesOn_6 12 rfl rfl)
theorem iX5_goesOn_152 {d : Nat} {L S : List MV} {M : MH} {Q : Out → MH → Prop}  (k : MW mX5_goesOn d 153 (L) (vi 1 :: S) M Q) : MW mX5_goesOn d 152 (L) S M Q := mw_iconst ⟨dX5_goesOn_152, rfl⟩ k
theorem dX5_goesOn_153 : decode cX5_goesOn 153 = .ok (.iadd, 1) := dk_96 (dk_at dksX5_goesOn_6 13 rfl rfl)
theorem iX5_goesOn_153 {d : Nat} {L S : List MV} {M : MH} {Q : Out → MH → Prop} {a b : Int} (k : MW mX5_goesOn d 154 (L) (vi (a + b) :: S) M Q) : MW mX5_goesOn d 153 (L) (vi b :: vi a :: S) M Q := mw_iadd ⟨dX5_goesOn_153, rfl⟩ k
theorem dX5_goesOn_154 : decode cX5_goesOn 154 = .ok (.invokevirtual 30, 3) := dk_182 0 30 (dk_at dksX5_goesOn_6 14 rfl rfl)
theorem iX5_goesOn_154 {d : Nat} {L S : List MV} {M : MH} {Q : Out → MH → Prop} {v1 v2 : MV} {b : Nat} {P : MH → Prop} (hs : (msh M b).1 = 7) (hM : MCv mX5_comes d [vp b, v1, v2] M P) (k : ∀ M', P M' → MW mX5_goesOn (d + 1) 157 L S M' Q) (h8 : Nat.ble (S.map mcat).sum 8 = true := by rfl) : MW mX5_goesOn (d + 1) 154 L (v2 :: v1 :: vp b :: S) M Q := mw_callv (as := [vp b, v1, v2]) (site_V (Y' := mX5_comes) (n := 2) ⟨dX5_goesOn_154, rfl⟩ (Or.inl q973) q975 qs41 wX5_comes nX5_comes hX5_comes (cls_of (ci := 7) rfl hs) rfl) kX5_comes (Nat.le_of_ble_eq_true h8) hM k
theorem dX5_goesOn_157 : decode cX5_goesOn 157 = .ok (.iinc 3 1, 3) := dk_132 3 1 (dk_at dksX5_goesOn_6 17 rfl rfl)
theorem iX5_goesOn_157 {d : Nat} {r S : List MV} {M : MH} {Q : Out → MH → Prop} {w0 w1 w2 : MV} {z : Int} (k : MW mX5_goesOn d 160 (w0 :: w1 :: w2 :: vi (z + 1) :: r) S M Q) (hok : okSt (w0 :: w1 :: w2 :: vi z :: r) 3 = true := by rfl) : MW mX5_goesOn d 157 (w0 :: w1 :: w2 :: vi z :: r) S M Q := mw_iinc (i := 3) ⟨dX5_goesOn_157, rfl⟩ rfl (Nat.le_of_ble_eq_true rfl) hok k
theorem dX5_goesOn_160 : decode cX5_goesOn 160 = .ok (.goto (-145), 3) := dk_167 255 111 (dk_at dksX5_goesOn_6 20 rfl rfl)
theorem iX5_goesOn_160 {d : Nat} {L S : List MV} {M : MH} {Q : Out → MH → Prop}  (k : MW mX5_goesOn d 15 (L) S M Q) : MW mX5_goesOn d 160 (L) S M Q := mw_goto ⟨dX5_goesOn_160, rfl⟩ rfl k
theorem dX5_goesOn_163 : decode cX5_goesOn 163 = .ok (.iinc 2 1, 3) := dk_132 2 1 (dk_at dksX5_goesOn_7 0 rfl rfl)
theorem iX5_goesOn_163 {d : Nat} {r S : List MV} {M : MH} {Q : Out → MH → Prop} {w0 w1 : MV} {z : Int} (k : MW mX5_goesOn d 166 (w0 :: w1 :: vi (z + 1) :: r) S M Q) (hok : okSt (w0 :: w1 :: vi z :: r) 2 = true := by rfl) : MW mX5_goesOn d 163 (w0 :: w1 :: vi z :: r) S M Q := mw_iinc (i := 2) ⟨dX5_goesOn_163, rfl⟩ rfl (Nat.le_of_ble_eq_true rfl) hok k
theorem dX5_goesOn_166 : decode cX5_goesOn 166 = .ok (.goto (-164), 3) := dk_167 255 92 (dk_at dksX5_goesOn_7 3 rfl rfl)
theorem iX5_goesOn_166 {d : Nat} {L S : List MV} {M : MH} {Q : Out → MH → Prop}  (k : MW mX5_goesOn d 2 (L) S M Q) : MW mX5_goesOn d 166 (L) S M Q := mw_goto ⟨dX5_goesOn_166, rfl⟩ rfl k
theorem dX5_goesOn_169 : decode cX5_goesOn 169 = .ok (.return_, 1) := dk_177 (dk_at dksX5_goesOn_7 6 rfl rfl)
theorem iX5_goesOn_169 {d : Nat} {L : List MV} {M : MH} {P : MH → Prop} (hq : P M) : MW mX5_goesOn d 169 L [] M (Rv P) := mw_retv ⟨dX5_goesOn_169, rfl⟩ rfl hq
/-! X6_init -/
theorem dX6_init_0 : decode cX6_init 0 = .ok (.aload_n 0, 1) := by decide +kernel
theorem iX6_init_0 {d : Nat} {r S : List MV} {M : MH} {Q : Out → MH → Prop} {o : Option Nat} (k : MW mX6_init d 1 (vr o :: r) (vr o :: S) M Q) : MW mX6_init d 0 (vr o :: r) S M Q := mw_aload_n ⟨dX6_init_0, rfl⟩ rfl k
theorem dX6_init_1 : decode cX6_init 1 = .ok (.invokespecial 1, 3) := by decide +kernel
theorem iX6_init_1 {d : Nat} {L S : List MV} {M : MH} {Q : Out → MH → Prop} {a : Nat} (k : MW mX6_init (d + 1) 4 L S M Q) (h8 : Nat.ble (S.map mcat).sum 8 = true := by rfl) : MW mX6_init (d + 1) 1 L (vp a :: S) M Q := mw_objInit ⟨dX6_init_1, rfl⟩ q255 q125 q126 (Nat.le_of_ble_eq_true h8) k
theorem dX6_init_4 : decode cX6_init 4 = .ok (.return_, 1) := by decide +kernel
theorem iX6_init_4 {d : Nat} {L : List MV} {M : MH} {P : MH → Prop} (hq : P M) : MW mX6_init d 4 L [] M (Rv P) := mw_retv ⟨dX6_init_4, rfl⟩ rfl hq
/-! X6_size -/
def dkwX6_size_3 : List UInt8 := [192, 0, 21, 190, 172]
abbrev dktX6_size_3 : List UInt8 := dkwX6_size_3 ++ []
def dkwX6_size_2 : List UInt8 := [42, 180, 0, 7, 192, 0, 13, 190, 172, 42, 180, 0, 7, 192, 0, 15, 190, 172, 42, 180, 0, 7]
abbrev dktX6_size_2 : List UInt8 := dkwX6_size_2 ++ dktX6_size_3
def dkwX6_size_1 : List UInt8 := [171, 0, 0, 0, 0, 0, 0, 46, 0, 0, 0, 2, 0, 0, 0, 0, 0, 0, 0, 28, 0, 0, 0, 1, 0, 0, 0, 37]
abbrev dktX6_size_1 : List UInt8 := dkwX6_size_1 ++ dktX6_size_2
def dkwX6_size_0 : List UInt8 := [42, 182, 0, 17]
abbrev dktX6_size_0 : List UInt8 := dkwX6_size_0 ++ dktX6_size_1
theorem dksX6_size_0 : cX6_size.data.toList.drop 0 = dktX6_size_0 := by decide +kernel
theorem dksX6_size_1 : cX6_size.data.toList.drop 4 = dktX6_size_1 := dk_seg dksX6_size_0 4 rfl rfl
theorem dksX6_size_2 : cX6_size.data.toList.drop 32 = dktX6_size_2 := dk_seg dksX6_size_1 28 rfl rfl
theorem dksX6_size_3 : cX6_size.data.toList.drop 54 = dktX6_size_3 := dk_seg dksX6_size_2 22 rfl rfl
theorem dX6_size_0 : decode cX6_size 0 = .ok (.aload_n 0, 1) := dk_42 (dk_at dksX6_size_0 0 rfl rfl)
theorem iX6_size_0 {d : Nat} {r S : List MV} {M : MH} {Q : Out → MH → Prop} {o : Option Nat} (k : MW mX6_size d 1 (vr o :: r) (vr o :: S) M Q) : MW mX6_size d 0 (vr o :: r) S M Q := mw_aload_n ⟨dX6_size_0, rfl⟩ rfl k
theorem dX6_size_1 : decode cX6_size 1 = .ok (.invokevirtual 17, 3) := dk_182 0 17 (dk_at dksX6_size_0 1 rfl rfl)
theorem iX6_size_1 {d : Nat} {L S : List MV} {M : MH} {Q : Out → MH → Prop} {b : Nat} {P : Int → MH → Prop} (hs : (msh M b).1 = 8) (hM : MCi mX6_type d [vp b] M P) (k : ∀ z M', P z M' → MW mX6_size (d + 1) 4 L (vi z :: S) M' Q) (h8 : Nat.ble (S.map mcat).sum 8 = true := by rfl) : MW mX6_size (d + 1) 1 L (vp b :: S) M Q := mw_calli (as := [vp b]) (site_V (Y' := mX6_type) (n := 0) ⟨dX6_size_1, rfl⟩ (Or.inl q742) q743 q744 wX6_type nX6_type hX6_type (cls_of (ci := 8) rfl hs) rfl) kX6_type (Nat.le_of_ble_eq_true h8) hM k
theorem dX6_size_4 : decode cX6_size 4 = .ok (.lookupswitch 46 #[(0, 28), (1, 37)], 28) := by decide +kernel
theorem iX6_size_4_D {d : Nat} {L S : List MV} {M : MH} {Q : Out → MH → Prop} {a : Int} (ha : inR a) (h0 : a ≠ 0) (h1 : a ≠ 1) (k : MW mX6_size d 50 L S M Q) : MW mX6_size d 4 L (vi a :: S) M Q := mw_lookup (off := 46) ⟨dX6_size_4, rfl⟩ rfl ha (by simp [Op.lookupswitch.offset, h0, h1, Ne.symm h0, Ne.symm h1]) rfl k
theorem iX6_size_4_0 {d : Nat} {L S : List MV} {M : MH} {Q : Out → MH → Prop} (k : MW mX6_size d 32 L S M Q) : MW mX6_size d 4 L (vi 0 :: S) M Q := mw_lookup ⟨dX6_size_4, rfl⟩ rfl ⟨by decide, by decide⟩ rfl rfl k
theorem iX6_size_4_1 {d : Nat} {L S : List MV} {M : MH} {Q : Out → MH → Prop} (k : MW mX6_size d 41 L S M Q) : MW mX6_size d 4 L (vi 1 :: S) M Q := mw_lookup ⟨dX6_size_4, rfl⟩ rfl ⟨by decide, by decide⟩ rfl rfl k
theorem dX6_size_32 : decode cX6_size 32 = .ok (.aload_n 0, 1) := dk_42 (dk_at dksX6_size_2 0 rfl rfl)
theorem iX6_size_32 {d : Nat} {r S : List MV} {M : MH} {Q : Out → MH → Prop} {o : Option Nat} (k : MW mX6_size d 33 (vr o :: r) (vr o :: S) M Q) : MW mX6_size d 32 (vr o :: r) S M Q := mw_aload_n ⟨dX6_size_32, rfl⟩ rfl k
theorem dX6_size_33 : decode cX6_size 33 = .ok (.getfield 7, 3) := dk_180 0 7 (dk_at dksX6_size_2 1 rfl rfl)
theorem iX6_size_33 {d : Nat} {L S : List MV} {M : MH} {Q : Out → MH → Prop} {a : Nat} {o : Option Nat} (hs : (msh M a).1 = 8) (hr : mrv M a 0 = o) (k : MW mX6_size d 36 L (vr o :: S) M Q) : MW mX6_size d 33 L (vp a :: S) M Q := mw_getR (ci := 8) (k := 0) ⟨dX6_size_33, rfl⟩ ⟨_, rfl, Nat.le_of_ble_eq_true rfl, Or.inl q256⟩ rfl hs hr k
theorem dX6_size_36 : decode cX6_size 36 = .ok (.checkcast 13, 3) := dk_192 0 13 (dk_at dksX6_size_2 4 rfl rfl)
theorem iX6_size_36 {d : Nat} {L S : List MV} {M : MH} {Q : Out → MH → Prop} {a : Nat} (hC : ClsOf M a "[B") (k : MW mX6_size d 39 L (vp a :: S) M Q) : MW mX6_size d 36 L (vp a :: S) M Q := mw_castS ⟨dX6_size_36, rfl⟩ q746 hC k
theorem dX6_size_39 : decode cX6_size 39 = .ok (.arraylength, 1) := dk_190 (dk_at dksX6_size_2 7 rfl rfl)
theorem iX6_size_39 {d : Nat} {L S : List MV} {M : MH} {Q : Out → MH → Prop} {a n ak : Nat} (hs : msh M a = (100 + ak, n)) (k : MW mX6_size d 40 L (vi n :: S) M Q) : MW mX6_size d 39 L (vp a :: S) M Q := mw_alen ⟨dX6_size_39, rfl⟩ hs k
theorem iX6_size_39E {d : Nat} {L S : List MV} {M : MH} {Q : Out → MH → Prop} (k : MW mX6_size d 40 L (vi 0 :: S) M Q) : MW mX6_size d 39 L (vp 0 :: S) M Q := mw_alen0 ⟨dX6_size_39, rfl⟩ k
theorem dX6_size_40 : decode cX6_size 40 = .ok (.ireturn, 1) := dk_172 (dk_at dksX6_size_2 8 rfl rfl)
theorem iX6_size_40 {d : Nat} {L : List MV} {M : MH} {P : Int → MH → Prop} {z : Int} (hq : P z M) : MW mX6_size d 40 L [vi z] M (Ri P) := mw_reti ⟨dX6_size_40, rfl⟩ rfl hq
theorem dX6_size_41 : decode cX6_size 41 = .ok (.aload_n 0, 1) := dk_42 (dk_at dksX6_size_2 9 rfl rfl)
theorem iX6_size_41 {d : Nat} {r S : List MV} {M : MH} {Q : Out → MH → Prop} {o : Option Nat} (k : MW mX6_size d 42 (vr o :: r) (vr o :: S) M Q) : MW mX6_size d 41 (vr o :: r) S M Q := mw_aload_n ⟨dX6_size_41, rfl⟩ rfl k
theorem dX6_size_42 : decode cX6_size 42 = .ok (.getfield 7, 3) := dk_180 0 7 (dk_at dksX6_size_2 10 rfl rfl)
theorem iX6_size_42 {d : Nat} {L S : List MV} {M : MH} {Q : Out → MH → Prop} {a : Nat} {o : Option Nat} (hs : (msh M a).1 = 8) (hr : mrv M a 0 = o) (k : MW mX6_size d 45 L (vr o :: S) M Q) : MW mX6_size d 42 L (vp a :: S) M Q := mw_getR (ci := 8) (k := 0) ⟨dX6_size_42, rfl⟩ ⟨_, rfl, Nat.le_of_ble_eq_true rfl, Or.inl q256⟩ rfl hs hr k
theorem dX6_size_45 : decode cX6_size 45 = .ok (.checkcast 15, 3) := dk_192 0 15 (dk_at dksX6_size_2 13 rfl rfl)
theorem iX6_size_45 {d : Nat} {L S : List MV} {M : MH} {Q : Out → MH → Prop} {a : Nat} (hC : ClsOf M a "[S") (k : MW mX6_size d 48 L (vp a :: S) M Q) : MW mX6_size d 45 L (vp a :: S) M Q := mw_castS ⟨dX6_size_45, rfl⟩ q747 hC k
theorem dX6_size_48 : decode cX6_size 48 = .ok (.arraylength, 1) := dk_190 (dk_at dksX6_size_2 16 rfl rfl)
theorem iX6_size_48 {d : Nat} {L S : List MV} {M : MH} {Q : Out → MH → Prop} {a n ak : Nat} (hs : msh M a = (100 + ak, n)) (k : MW mX6_size d 49 L (vi n :: S) M Q) : MW mX6_size d 48 L (vp a :: S) M Q := mw_alen ⟨dX6_size_48, rfl⟩ hs k
theorem iX6_size_48E {d : Nat} {L S : List MV} {M : MH} {Q : Out → MH → Prop} (k : MW mX6_size d 49 L (vi 0 :: S) M Q) : MW mX6_size d 48 L (vp 0 :: S) M Q := mw_alen0 ⟨dX6_size_48, rfl⟩ k
theorem dX6_size_49 : decode cX6_size 49 = .ok (.ireturn, 1) := dk_172 (dk_at dksX6_size_2 17 rfl rfl)
theorem iX6_size_49 {d : Nat} {L : List MV} {M : MH} {P : Int → MH → Prop} {z : Int} (hq : P z M) : MW mX6_size d 49 L [vi z] M (Ri P) := mw_reti ⟨dX6_size_49, rfl⟩ rfl hq
theorem dX6_size_50 : decode cX6_size 50 = .ok (.aload_n 0, 1) := dk_42 (dk_at dksX6_size_2 18 rfl rfl)
theorem iX6_size_50 {d : Nat} {r S : List MV} {M : MH} {Q : Out → MH → Prop} {o : Option Nat} (k : MW mX6_size d 51 (vr o :: r) (vr o :: S) M Q) : MW mX6_size d 50 (vr o :: r) S M Q := mw_aload_n ⟨dX6_size_50, rfl⟩ rfl k
theorem dX6_size_51 : decode cX6_size 51 = .ok (.getfield 7, 3) := dk_180 0 7 (dk_at dksX6_size_2 19 rfl rfl)
theorem iX6_size_51 {d : Nat} {L S : List MV} {M : MH} {Q : Out → MH → Prop} {a : Nat} {o : Option Nat} (hs : (msh M a).1 = 8) (hr : mrv M a 0 = o) (k : MW mX6_size d 54 L (vr o :: S) M Q) : MW mX6_size d 51 L (vp a :: S) M Q := mw_getR (ci := 8) (k := 0) ⟨dX6_size_51, rfl⟩ ⟨_, rfl, Nat.le_of_ble_eq_true rfl, Or.inl q256⟩ rfl hs hr k
theorem dX6_size_54 : decode cX6_size 54 = .ok (.checkcast 21, 3) := dk_192 0 21 (dk_at dksX6_size_3 0 rfl rfl)
theorem iX6_size_54 {d : Nat} {L S : List MV} {M : MH} {Q : Out → MH → Prop} {a : Nat} (hC : ClsOf M a "[I") (k : MW mX6_size d 57 L (vp a :: S) M Q) : MW mX6_size d 54 L (vp a :: S) M Q := mw_castS ⟨dX6_size_54, rfl⟩ q748 hC k
theorem dX6_size_57 : decode cX6_size 57 = .ok (.arraylength, 1) := dk_190 (dk_at dksX6_size_3 3 rfl rfl)
theorem iX6_size_57 {d : Nat} {L S : List MV} {M : MH} {Q : Out → MH → Prop} {a n ak : Nat} (hs : msh M a = (100 + ak, n)) (k : MW mX6_size d 58 L (vi n :: S) M Q) : MW mX6_size d 57 L (vp a :: S) M Q := mw_alen ⟨dX6_size_57, rfl⟩ hs k
theorem iX6_size_57E {d : Nat} {L S : List MV} {M : MH} {Q : Out → MH → Prop} (k : MW mX6_size d 58 L (vi 0 :: S) M Q) : MW mX6_size d 57 L (vp 0 :: S) M Q := mw_alen0 ⟨dX6_size_57, rfl⟩ k
theorem dX6_size_58 : decode cX6_size 58 = .ok (.ireturn, 1) := dk_172 (dk_at dksX6_size_3 4 rfl rfl)
theorem iX6_size_58 {d : Nat} {L : List MV} {M : MH} {P : Int → MH → Prop} {z : Int} (hq : P z M) : MW mX6_size d 58 L [vi z] M (Ri P) := mw_reti ⟨dX6_size_58, rfl⟩ rfl hq
/-! X6_type -/
def dkwX6_type_1 : List UInt8 := [4, 167, 0, 4, 5, 172]
abbrev dktX6_type_1 : List UInt8 := dkwX6_type_1 ++ []
def dkwX6_type_0 : List UInt8 := [42, 180, 0, 7, 193, 0, 13, 153, 0, 7, 3, 167, 0, 18, 42, 180, 0, 7, 193, 0, 15, 153, 0, 7]
abbrev dktX6_type_0 : List UInt8 := dkwX6_type_0 ++ dktX6_type_1
theorem dksX6_type_0 : cX6_type.data.toList.drop 0 = dktX6_type_0 := by decide +kernel
theorem dksX6_type_1 : cX6_type.data.toList.drop 24 = dktX6_type_1 := dk_seg dksX6_type_0 24 rfl rfl
theorem dX6_type_0 : decode cX6_type 0 = .ok (.aload_n 0, 1) := dk_42 (dk_at dksX6_type_0 0 rfl rfl)
theorem iX6_type_0 {d : Nat} {r S : List MV} {M : MH} {Q : Out → MH → Prop} {o : Option Nat} (k : MW mX6_type d 1 (vr o :: r) (vr o :: S) M Q) : MW mX6_type d 0 (vr o :: r) S M Q := mw_aload_n ⟨dX6_type_0, rfl⟩ rfl k
theorem dX6_type_1 : decode cX6_type 1 = .ok (.getfield 7, 3) := dk_180 0 7 (dk_at dksX6_type_0 1 rfl rfl)
theorem iX6_type_1 {d : Nat} {L S : List MV} {M : MH} {Q : Out → MH → Prop} {a : Nat} {o : Option Nat} (hs : (msh M a).1 = 8) (hr : mrv M a 0 = o) (k : MW mX6_type d 4 L (vr o :: S) M Q) : MW mX6_type d 1 L (vp a :: S) M Q := mw_getR (ci := 8) (k := 0) ⟨dX6_type_1, rfl⟩ ⟨_, rfl, Nat.le_of_ble_eq_true rfl, Or.inl q256⟩ rfl hs hr k
theorem dX6_type_4 : decode cX6_type 4 = .ok (.instanceof 13, 3) := dk_193 0 13 (dk_at dksX6_type_0 4 rfl rfl)
theorem iX6_type_4 {d : Nat} {L S : List MV} {M : MH} {Q : Out → MH → Prop} {a : Nat} (hC : ClsOf M a "[B") (k : MW mX6_type d 7 L (vi 1 :: S) M Q) : MW mX6_type d 4 L (vp a :: S) M Q := mw_instS ⟨dX6_type_4, rfl⟩ q746 hC k
theorem dX6_type_7 : decode cX6_type 7 = .ok (.ifCond .eq 7, 3) := dk_153 0 7 (dk_at dksX6_type_0 7 rfl rfl)
theorem iX6_type_7 {d : Nat} {L S : List MV} {M : MH} {Q : Out → MH → Prop} {a : Int} (ha : inR a) (kt : a = 0 → MW mX6_type d 14 L S M Q) (kf : ¬ a = 0 → MW mX6_type d 10 L S M Q) : MW mX6_type d 7 L (vi a :: S) M Q := mw_if_eq ⟨dX6_type_7, rfl⟩ rfl ha kt kf
theorem dX6_type_10 : decode cX6_type 10 = .ok (.iconst 0, 1) := dk_3 (dk_at dksX6_type_0 10 rfl rfl)
theorem iX6_type_10 {d : Nat} {L S : List MV} {M : MH} {Q : Out → MH → Prop}  (k : MW mX6_type d 11 (L) (vi 0 :: S) M Q) : MW mX6_type d 10 (L) S M Q := mw_iconst ⟨dX6_type_10, rfl⟩ k
theorem dX6_type_11 : decode cX6_type 11 = .ok (.goto 18, 3) := dk_167 0 18 (dk_at dksX6_type_0 11 rfl rfl)
theorem iX6_type_11 {d : Nat} {L S : List MV} {M : MH} {Q : Out → MH → Prop}  (k : MW mX6_type d 29 (L) S M Q) : MW mX6_type d 11 (L) S M Q := mw_goto ⟨dX6_type_11, rfl⟩ rfl k
theorem dX6_type_14 : decode cX6_type 14 = .ok (.aload_n 0, 1) := dk_42 (dk_at dksX6_type_0 14 rfl rfl)
theorem iX6_type_14 {d : Nat} {r S : List MV} {M : MH} {Q : Out → MH → Prop} {o : Option Nat} (k : MW mX6_type d 15 (vr o :: r) (vr o :: S) M Q) : MW mX6_type d 14 (vr o :: r) S M Q := mw_aload_n ⟨dX6_type_14, rfl⟩ rfl k
theorem dX6_type_15 : decode cX6_type 15 = .ok (.getfield 7, 3) := dk_180 0 7 (dk_at dksX6_type_0 15 rfl rfl)
theorem iX6_type_15 {d : Nat} {L S : List MV} {M : MH} {Q : Out → MH → Prop} {a : Nat} {o : Option Nat} (hs : (msh M a).1 = 8) (hr : mrv M a 0 = o) (k : MW mX6_type d 18 L (vr o :: S) M Q) : MW mX6_type d 15 L (vp a :: S) M Q := mw_getR (ci := 8) (k := 0) ⟨dX6_type_15, rfl⟩ ⟨_, rfl, Nat.le_of_ble_eq_true rfl, Or.inl q256⟩ rfl hs hr k
theorem dX6_type_18 : decode cX6_type 18 = .ok (.instanceof 15, 3) := dk_193 0 15 (dk_at dksX6_type_0 18 rfl rfl)
theorem iX6_type_18 {d : Nat} {L S : List MV} {M : MH} {Q : Out → MH → Prop} {a : Nat} (hC : ClsOf M a "[S") (k : MW mX6_type d 21 L (vi 1 :: S) M Q) : MW mX6_type d 18 L (vp a :: S) M Q := mw_instS ⟨dX6_type_18, rfl⟩ q747 hC k
theorem dX6_type_21 : decode cX6_type 21 = .ok (.ifCond .eq 7, 3) := dk_153 0 7 (dk_at dksX6_type_0 21 rfl rfl)
theorem iX6_type_21 {d : Nat} {L S : List MV} {M : MH} {Q : Out → MH → Prop} {a : Int} (ha : inR a) (kt : a = 0 → MW mX6_type d 28 L S M Q) (kf : ¬ a = 0 → MW mX6_type d 24 L S M Q) : MW mX6_type d 21 L (vi a :: S) M Q := mw_if_eq ⟨dX6_type_21, rfl⟩ rfl ha kt kf
theorem dX6_type_24 : decode cX6_type 24 = .ok (.iconst 1, 1) := dk_4 (dk_at dksX6_type_1 0 rfl rfl)
theorem iX6_type_24 {d : Nat} {L S : List MV} {M : MH} {Q : Out → MH → Prop}  (k : MW mX6_type d 25 (L) (vi 1 :: S) M Q) : MW mX6_type d 24 (L) S M Q := mw_iconst ⟨dX6_type_24, rfl⟩ k
theorem dX6_type_25 : decode cX6_type 25 = .ok (.goto 4, 3) := dk_167 0 4 (dk_at dksX6_type_1 1 rfl rfl)
theorem iX6_type_25 {d : Nat} {L S : List MV} {M : MH} {Q : Out → MH → Prop}  (k : MW mX6_type d 29 (L) S M Q) : MW mX6_type d 25 (L) S M Q := mw_goto ⟨dX6_type_25, rfl⟩ rfl k
theorem dX6_type_28 : decode cX6_type 28 = .ok (.iconst 2, 1) := dk_5 (dk_at dksX6_type_1 4 rfl rfl)
theorem iX6_type_28 {d : Nat} {L S : List MV} {M : MH} {Q : Out → MH → Prop}  (k : MW mX6_type d 29 (L) (vi 2 :: S) M Q) : MW mX6_type d 28 (L) S M Q := mw_iconst ⟨dX6_type_28, rfl⟩ k
theorem dX6_type_29 : decode cX6_type 29 = .ok (.ireturn, 1) := dk_172 (dk_at dksX6_type_1 5 rfl rfl)
theorem iX6_type_29 {d : Nat} {L : List MV} {M : MH} {P : Int → MH → Prop} {z : Int} (hq : P z M) : MW mX6_type d 29 L [vi z] M (Ri P) := mw_reti ⟨dX6_type_29, rfl⟩ rfl hq
/-! X6_item -/
def dkwX6_item_3 : List UInt8 := [192, 0, 21, 28, 46, 172]
abbrev dktX6_item_3 : List UInt8 := dkwX6_item_3 ++ []
def dkwX6_item_2 : List UInt8 := [42, 180, 0, 7, 192, 0, 13, 28, 51, 172, 42, 180, 0, 7, 192, 0, 15, 28, 53, 172, 42, 180, 0, 7]
abbrev dktX6_item_2 : List UInt8 := dkwX6_item_2 ++ dktX6_item_3
def dkwX6_item_1 : List UInt8 := [171, 0, 0, 0, 0, 0, 47, 0, 0, 0, 2, 0, 0, 0, 0, 0, 0, 0, 27, 0, 0, 0, 1, 0, 0, 0, 37]
abbrev dktX6_item_1 : List UInt8 := dkwX6_item_1 ++ dktX6_item_2
def dkwX6_item_0 : List UInt8 := [27]
abbrev dktX6_item_0 : List UInt8 := dkwX6_item_0 ++ dktX6_item_1
theorem dksX6_item_0 : cX6_item.data.toList.drop 0 = dktX6_item_0 := by decide +kernel
theorem dksX6_item_1 : cX6_item.data.toList.drop 1 = dktX6_item_1 := dk_seg dksX6_item_0 1 rfl rfl
theorem dksX6_item_2 : cX6_item.data.toList.drop 28 = dktX6_item_2 := dk_seg dksX6_item_1 27 rfl rfl
theorem dksX6_item_3 : cX6_item.data.toList.drop 52 = dktX6_item_3 := dk_seg dksX6_item_2 24 rfl rfl
theorem dX6_item_0 : decode cX6_item 0 = .ok (.iload_n 1, 1) := dk_27 (dk_at dksX6_item_0 0 rfl rfl)
theorem iX6_item_0 {d : Nat} {r S : List MV} {M : MH} {Q : Out → MH → Prop} {w0 : MV} {z : Int} (k : MW mX6_item d 1 (w0 :: vi z :: r) (vi z :: S) M Q) : MW mX6_item d 0 (w0 :: vi z :: r) S M Q := mw_iload_n ⟨dX6_item_0, rfl⟩ rfl k
theorem dX6_item_1 : decode cX6_item 1 = .ok (.lookupswitch 47 #[(0, 27), (1, 37)], 27) := by decide +kernel
theorem iX6_item_1_D {d : Nat} {L S : List MV} {M : MH} {Q : Out → MH → Prop} {a : Int} (ha : inR a) (h0 : a ≠ 0) (h1 : a ≠ 1) (k : MW mX6_item d 48 L S M Q) : MW mX6_item d 1 L (vi a :: S) M Q := mw_lookup (off := 47) ⟨dX6_item_1, rfl⟩ rfl ha (by simp [Op.lookupswitch.offset, h0, h1, Ne.symm h0, Ne.symm h1]) rfl k
theorem iX6_item_1_0 {d : Nat} {L S : List MV} {M : MH} {Q : Out → MH → Prop} (k : MW mX6_item d 28 L S M Q) : MW mX6_item d 1 L (vi 0 :: S) M Q := mw_lookup ⟨dX6_item_1, rfl⟩ rfl ⟨by decide, by decide⟩ rfl rfl k
theorem iX6_item_1_1 {d : Nat} {L S : List MV} {M : MH} {Q : Out → MH → Prop} (k : MW mX6_item d 38 L S M Q) : MW mX6_item d 1 L (vi 1 :: S) M Q := mw_lookup ⟨dX6_item_1, rfl⟩ rfl ⟨by decide, by decide⟩ rfl rfl k
theorem dX6_item_28 : decode cX6_item 28 = .ok (.aload_n 0, 1) := dk_42 (dk_at dksX6_item_2 0 rfl rfl)
theorem iX6_item_28 {d : Nat} {r S : List MV} {M : MH} {Q : Out → MH → Prop} {o : Option Nat} (k : MW mX6_item d 29 (vr o :: r) (vr o :: S) M Q) : MW mX6_item d 28 (vr o :: r) S M Q := mw_aload_n ⟨dX6_item_28, rfl⟩ rfl k
theorem dX6_item_29 : decode cX6_item 29 = .ok (.getfield 7, 3) := dk_180 0 7 (dk_at dksX6_item_2 1 rfl rfl)
theorem iX6_item_29 {d : Nat} {L S : List MV} {M : MH} {Q : Out → MH → Prop} {a : Nat} {o : Option Nat} (hs : (msh M a).1 = 8) (hr : mrv M a 0 = o) (k : MW mX6_item d 32 L (vr o :: S) M Q) : MW mX6_item d 29 L (vp a :: S) M Q := mw_getR (ci := 8) (k := 0) ⟨dX6_item_29, rfl⟩ ⟨_, rfl, Nat.le_of_ble_eq_true rfl, Or.inl q256⟩ rfl hs hr k
theorem dX6_item_32 : decode cX6_item 32 = .ok (.checkcast 13, 3) := dk_192 0 13 (dk_at dksX6_item_2 4 rfl rfl)
theorem iX6_item_32 {d : Nat} {L S : List MV} {M : MH} {Q : Out → MH → Prop} {a : Nat} (hC : ClsOf M a "[B") (k : MW mX6_item d 35 L (vp a :: S) M Q) : MW mX6_item d 32 L (vp a :: S) M Q := mw_castS ⟨dX6_item_32, rfl⟩ q746 hC k
theorem dX6_item_35 : decode cX6_item 35 = .ok (.iload_n 2, 1) := dk_28 (dk_at dksX6_item_2 7 rfl rfl)
theorem iX6_item_35 {d : Nat} {r S : List MV} {M : MH} {Q : Out → MH → Prop} {w0 w1 : MV} {z : Int} (k : MW mX6_item d 36 (w0 :: w1 :: vi z :: r) (vi z :: S) M Q) : MW mX6_item d 35 (w0 :: w1 :: vi z :: r) S M Q := mw_iload_n ⟨dX6_item_35, rfl⟩ rfl k
theorem dX6_item_36 : decode cX6_item 36 = .ok (.baload, 1) := dk_51 (dk_at dksX6_item_2 8 rfl rfl)
theorem iX6_item_36Z {d : Nat} {L S : List MV} {M : MH} {Q : Out → MH → Prop} {a n : Nat} {z : Int} (hs : msh M a = (101, n)) (hi : 0 ≤ z ∧ z < n) (hn : n ≤ 2147483647) (k : MW mX6_item d 37 L (vi (miv M a z.toNat) :: S) M Q) : MW mX6_item d 36 L (vi z :: vp a :: S) M Q := mw_zaload ⟨dX6_item_36, rfl⟩ hs hn hi k
theorem iX6_item_36B {d : Nat} {L S : List MV} {M : MH} {Q : Out → MH → Prop} {a n : Nat} {z : Int} (hs : msh M a = (102, n)) (hi : 0 ≤ z ∧ z < n) (hn : n ≤ 2147483647) (k : MW mX6_item d 37 L (vi (miv M a z.toNat) :: S) M Q) : MW mX6_item d 36 L (vi z :: vp a :: S) M Q := mw_baload ⟨dX6_item_36, rfl⟩ hs hn hi k
theorem dX6_item_37 : decode cX6_item 37 = .ok (.ireturn, 1) := dk_172 (dk_at dksX6_item_2 9 rfl rfl)
theorem iX6_item_37 {d : Nat} {L : List MV} {M : MH} {P : Int → MH → Prop} {z : Int} (hq : P z M) : MW mX6_item d 37 L [vi z] M (Ri P) := mw_reti ⟨dX6_item_37, rfl⟩ rfl hq
theorem dX6_item_38 : decode cX6_item 38 = .ok (.aload_n 0, 1) := dk_42 (dk_at dksX6_item_2 10 rfl rfl)
theorem iX6_item_38 {d : Nat} {r S : List MV} {M : MH} {Q : Out → MH → Prop} {o : Option Nat} (k : MW mX6_item d 39 (vr o :: r) (vr o :: S) M Q) : MW mX6_item d 38 (vr o :: r) S M Q := mw_aload_n ⟨dX6_item_38, rfl⟩ rfl k
theorem dX6_item_39 : decode cX6_item 39 = .ok (.getfield 7, 3) := dk_180 0 7 (dk_at dksX6_item_2 11 rfl rfl)
theorem iX6_item_39 {d : Nat} {L S : List MV} {M : MH} {Q : Out → MH → Prop} {a : Nat} {o : Option Nat} (hs : (msh M a).1 = 8) (hr : mrv M a 0 = o) (k : MW mX6_item d 42 L (vr o :: S) M Q) : MW mX6_item d 39 L (vp a :: S) M Q := mw_getR (ci := 8) (k := 0) ⟨dX6_item_39, rfl⟩ ⟨_, rfl, Nat.le_of_ble_eq_true rfl, Or.inl q256⟩ rfl hs hr k
theorem dX6_item_42 : decode cX6_item 42 = .ok (.checkcast 15, 3) := dk_192 0 15 (dk_at dksX6_item_2 14 rfl rfl)
theorem iX6_item_42 {d : Nat} {L S : List MV} {M : MH} {Q : Out → MH → Prop} {a : Nat} (hC : ClsOf M a "[S") (k : MW mX6_item d 45 L (vp a :: S) M Q) : MW mX6_item d 42 L (vp a :: S) M Q := mw_castS ⟨dX6_item_42, rfl⟩ q747 hC k
theorem dX6_item_45 : decode cX6_item 45 = .ok (.iload_n 2, 1) := dk_28 (dk_at dksX6_item_2 17 rfl rfl)
theorem iX6_item_45 {d : Nat} {r S : List MV} {M : MH} {Q : Out → MH → Prop} {w0 w1 : MV} {z : Int} (k : MW mX6_item d 46 (w0 :: w1 :: vi z :: r) (vi z :: S) M Q) : MW mX6_item d 45 (w0 :: w1 :: vi z :: r) S M Q := mw_iload_n ⟨dX6_item_45, rfl⟩ rfl k
theorem dX6_item_46 : decode cX6_item 46 = .ok (.saload, 1) := dk_53 (dk_at dksX6_item_2 18 rfl rfl)
theorem iX6_item_46 {d : Nat} {L S : List MV} {M : MH} {Q : Out → MH → Prop} {a n : Nat} {z : Int} (hs : msh M a = (103, n)) (hi : 0 ≤ z ∧ z < n) (hn : n ≤ 2147483647) (k : MW mX6_item d 47 L (vi (miv M a z.toNat) :: S) M Q) : MW mX6_item d 46 L (vi z :: vp a :: S) M Q := mw_saload ⟨dX6_item_46, rfl⟩ hs hn hi k
theorem dX6_item_47 : decode cX6_item 47 = .ok (.ireturn, 1) := dk_172 (dk_at dksX6_item_2 19 rfl rfl)
theorem iX6_item_47 {d : Nat} {L : List MV} {M : MH} {P : Int → MH → Prop} {z : Int} (hq : P z M) : MW mX6_item d 47 L [vi z] M (Ri P) := mw_reti ⟨dX6_item_47, rfl⟩ rfl hq
theorem dX6_item_48 : decode cX6_item 48 = .ok (.aload_n 0, 1) := dk_42 (dk_at dksX6_item_2 20 rfl rfl)
theorem iX6_item_48 {d : Nat} {r S : List MV} {M : MH} {Q : Out → MH → Prop} {o : Option Nat} (k : MW mX6_item d 49 (vr o :: r) (vr o :: S) M Q) : MW mX6_item d 48 (vr o :: r) S M Q := mw_aload_n ⟨dX6_item_48, rfl⟩ rfl k
theorem dX6_item_49 : decode cX6_item 49 = .ok (.getfield 7, 3) := dk_180 0 7 (dk_at dksX6_item_2 21 rfl rfl)
theorem iX6_item_49 {d : Nat} {L S : List MV} {M : MH} {Q : Out → MH → Prop} {a : Nat} {o : Option Nat} (hs : (msh M a).1 = 8) (hr : mrv M a 0 = o) (k : MW mX6_item d 52 L (vr o :: S) M Q) : MW mX6_item d 49 L (vp a :: S) M Q := mw_getR (ci := 8) (k := 0) ⟨dX6_item_49, rfl⟩ ⟨_, rfl, Nat.le_of_ble_eq_true rfl, Or.inl q256⟩ rfl hs hr k
theorem dX6_item_52 : decode cX6_item 52 = .ok (.checkcast 21, 3) := dk_192 0 21 (dk_at dksX6_item_3 0 rfl rfl)
theorem iX6_item_52 {d : Nat} {L S : List MV} {M : MH} {Q : Out → MH → Prop} {a : Nat} (hC : ClsOf M a "[I") (k : MW mX6_item d 55 L (vp a :: S) M Q) : MW mX6_item d 52 L (vp a :: S) M Q := mw_castS ⟨dX6_item_52, rfl⟩ q748 hC k
theorem dX6_item_55 : decode cX6_item 55 = .ok (.iload_n 2, 1) := dk_28 (dk_at dksX6_item_3 3 rfl rfl)
theorem iX6_item_55 {d : Nat} {r S : List MV} {M : MH} {Q : Out → MH → Prop} {w0 w1 : MV} {z : Int} (k : MW mX6_item d 56 (w0 :: w1 :: vi z :: r) (vi z :: S) M Q) : MW mX6_item d 55 (w0 :: w1 :: vi z :: r) S M Q := mw_iload_n ⟨dX6_item_55, rfl⟩ rfl k
theorem dX6_item_56 : decode cX6_item 56 = .ok (.iaload, 1) := dk_46 (dk_at dksX6_item_3 4 rfl rfl)
theorem iX6_item_56 {d : Nat} {L S : List MV} {M : MH} {Q : Out → MH → Prop} {a n : Nat} {z : Int} (hs : msh M a = (100, n)) (hi : 0 ≤ z ∧ z < n) (k : MW mX6_item d 57 L (vi (miv M a z.toNat) :: S) M Q) (hn : Nat.ble n 2147483647 = true := by rfl) : MW mX6_item d 56 L (vi z :: vp a :: S) M Q := mw_iaload ⟨dX6_item_56, rfl⟩ hs (Nat.le_of_ble_eq_true hn) hi k
theorem dX6_item_57 : decode cX6_item 57 = .ok (.ireturn, 1) := dk_172 (dk_at dksX6_item_3 5 rfl rfl)
theorem iX6_item_57 {d : Nat} {L : List MV} {M : MH} {P : Int → MH → Prop} {z : Int} (hq : P z M) : MW mX6_item d 57 L [vi z] M (Ri P) := mw_reti ⟨dX6_item_57, rfl⟩ rfl hq
/-! X6_lay -/
def dkwX6_lay_3 : List UInt8 := [86, 167, 0, 13, 42, 180, 0, 7, 192, 0, 21, 28, 29, 79, 177]
abbrev dktX6_lay_3 : List UInt8 := dkwX6_lay_3 ++ []
def dkwX6_lay_2 : List UInt8 := [42, 180, 0, 7, 192, 0, 13, 28, 29, 145, 84, 167, 0, 27, 42, 180, 0, 7, 192, 0, 15, 28, 29, 147]
abbrev dktX6_lay_2 : List UInt8 := dkwX6_lay_2 ++ dktX6_lay_3
def dkwX6_lay_1 : List UInt8 := [171, 0, 0, 0, 0, 0, 55, 0, 0, 0, 2, 0, 0, 0, 0, 0, 0, 0, 27, 0, 0, 0, 1, 0, 0, 0, 41]
abbrev dktX6_lay_1 : List UInt8 := dkwX6_lay_1 ++ dktX6_lay_2
def dkwX6_lay_0 : List UInt8 := [27]
abbrev dktX6_lay_0 : List UInt8 := dkwX6_lay_0 ++ dktX6_lay_1
theorem dksX6_lay_0 : cX6_lay.data.toList.drop 0 = dktX6_lay_0 := by decide +kernel
theorem dksX6_lay_1 : cX6_lay.data.toList.drop 1 = dktX6_lay_1 := dk_seg dksX6_lay_0 1 rfl rfl
theorem dksX6_lay_2 : cX6_lay.data.toList.drop 28 = dktX6_lay_2 := dk_seg dksX6_lay_1 27 rfl rfl
theorem dksX6_lay_3 : cX6_lay.data.toList.drop 52 = dktX6_lay_3 := dk_seg dksX6_lay_2 24 rfl rfl
theorem dX6_lay_0 : decode cX6_lay 0 = .ok (.iload_n 1, 1) := dk_27 (dk_at dksX6_lay_0 0 rfl rfl)
theorem iX6_lay_0 {d : Nat} {r S : List MV} {M : MH} {Q : Out → MH → Prop} {w0 : MV} {z : Int} (k : MW mX6_lay d 1 (w0 :: vi z :: r) (vi z :: S) M Q) : MW mX6_lay d 0 (w0 :: vi z :: r) S M Q := mw_iload_n ⟨dX6_lay_0, rfl⟩ rfl k
theorem dX6_lay_1 : decode cX6_lay 1 = .ok (.lookupswitch 55 #[(0, 27), (1, 41)], 27) := by decide +kernel
theorem iX6_lay_1_D {d : Nat} {L S : List MV} {M : MH} {Q : Out → MH → Prop} {a : Int} (ha : inR a) (h0 : a ≠ 0) (h1 : a ≠ 1) (k : MW mX6_lay d 56 L S M Q) : MW mX6_lay d 1 L (vi a :: S) M Q := mw_lookup (off := 55) ⟨dX6_lay_1, rfl⟩ rfl ha (by simp [Op.lookupswitch.offset, h0, h1, Ne.symm h0, Ne.symm h1]) rfl k
theorem iX6_lay_1_0 {d : Nat} {L S : List MV} {M : MH} {Q : Out → MH → Prop} (k : MW mX6_lay d 28 L S M Q) : MW mX6_lay d 1 L (vi 0 :: S) M Q := mw_lookup ⟨dX6_lay_1, rfl⟩ rfl ⟨by decide, by decide⟩ rfl rfl k
theorem iX6_lay_1_1 {d : Nat} {L S : List MV} {M : MH} {Q : Out → MH → Prop} (k : MW mX6_lay d 42 L S M Q) : MW mX6_lay d 1 L (vi 1 :: S) M Q := mw_lookup ⟨dX6_lay_1, rfl⟩ rfl ⟨by decide, by decide⟩ rfl rfl k
theorem dX6_lay_28 : decode cX6_lay 28 = .ok (.aload_n 0, 1) := dk_42 (dk_at dksX6_lay_2 0 rfl rfl)
theorem iX6_lay_28 {d : Nat} {r S : List MV} {M : MH} {Q : Out → MH → Prop} {o : Option Nat} (k : MW mX6_lay d 29 (vr o :: r) (vr o :: S) M Q) : MW mX6_lay d 28 (vr o :: r) S M Q := mw_aload_n ⟨dX6_lay_28, rfl⟩ rfl k
theorem dX6_lay_29 : decode cX6_lay 29 = .ok (.getfield 7, 3) := dk_180 0 7 (dk_at dksX6_lay_2 1 rfl rfl)
theorem iX6_lay_29 {d : Nat} {L S : List MV} {M : MH} {Q : Out → MH → Prop} {a : Nat} {o : Option Nat} (hs : (msh M a).1 = 8) (hr : mrv M a 0 = o) (k : MW mX6_lay d 32 L (vr o :: S) M Q) : MW mX6_lay d 29 L (vp a :: S) M Q := mw_getR (ci := 8) (k := 0) ⟨dX6_lay_29, rfl⟩ ⟨_, rfl, Nat.le_of_ble_eq_true rfl, Or.inl q256⟩ rfl hs hr k
theorem dX6_lay_32 : decode cX6_lay 32 = .ok (.checkcast 13, 3) := dk_192 0 13 (dk_at dksX6_lay_2 4 rfl rfl)
theorem iX6_lay_32 {d : Nat} {L S : List MV} {M : MH} {Q : Out → MH → Prop} {a : Nat} (hC : ClsOf M a "[B") (k : MW mX6_lay d 35 L (vp a :: S) M Q) : MW mX6_lay d 32 L (vp a :: S) M Q := mw_castS ⟨dX6_lay_32, rfl⟩ q746 hC k
theorem dX6_lay_35 : decode cX6_lay 35 = .ok (.iload_n 2, 1) := dk_28 (dk_at dksX6_lay_2 7 rfl rfl)
theorem iX6_lay_35 {d : Nat} {r S : List MV} {M : MH} {Q : Out → MH → Prop} {w0 w1 : MV} {z : Int} (k : MW mX6_lay d 36 (w0 :: w1 :: vi z :: r) (vi z :: S) M Q) : MW mX6_lay d 35 (w0 :: w1 :: vi z :: r) S M Q := mw_iload_n ⟨dX6_lay_35, rfl⟩ rfl k
theorem dX6_lay_36 : decode cX6_lay 36 = .ok (.iload_n 3, 1) := dk_29 (dk_at dksX6_lay_2 8 rfl rfl)
theorem iX6_lay_36 {d : Nat} {r S : List MV} {M : MH} {Q : Out → MH → Prop} {w0 w1 w2 : MV} {z : Int} (k : MW mX6_lay d 37 (w0 :: w1 :: w2 :: vi z :: r) (vi z :: S) M Q) : MW mX6_lay d 36 (w0 :: w1 :: w2 :: vi z :: r) S M Q := mw_iload_n ⟨dX6_lay_36, rfl⟩ rfl k
theorem dX6_lay_37 : decode cX6_lay 37 = .ok (.i2b, 1) := dk_145 (dk_at dksX6_lay_2 9 rfl rfl)
theorem iX6_lay_37 {d : Nat} {L S : List MV} {M : MH} {Q : Out → MH → Prop} {a : Int} (k : MW mX6_lay d 38 (L) (vi (a.bmod 256) :: S) M Q) : MW mX6_lay d 37 (L) (vi a :: S) M Q := mw_i2b ⟨dX6_lay_37, rfl⟩ k
theorem dX6_lay_38 : decode cX6_lay 38 = .ok (.bastore, 1) := dk_84 (dk_at dksX6_lay_2 10 rfl rfl)
theorem iX6_lay_38Z {d : Nat} {L S : List MV} {M : MH} {Q : Out → MH → Prop} {a n : Nat} {z v : Int} (hs : msh M a = (101, n)) (hi : 0 ≤ z ∧ z < n) (hn : n ≤ 2147483647) (hz : v = 0 ∨ v = 1) (k : MW mX6_lay d 39 L S (wI M a z.toNat v) Q) : MW mX6_lay d 38 L (vi v :: vi z :: vp a :: S) M Q := mw_zastore ⟨dX6_lay_38, rfl⟩ hs hn hi hz k
theorem iX6_lay_38B {d : Nat} {L S : List MV} {M : MH} {Q : Out → MH → Prop} {a n : Nat} {z v : Int} (hs : msh M a = (102, n)) (hi : 0 ≤ z ∧ z < n) (hn : n ≤ 2147483647) (k : MW mX6_lay d 39 L S (wI M a z.toNat (v.bmod 256)) Q) : MW mX6_lay d 38 L (vi v :: vi z :: vp a :: S) M Q := mw_bastore ⟨dX6_lay_38, rfl⟩ hs hn hi k
theorem dX6_lay_39 : decode cX6_lay 39 = .ok (.goto 27, 3) := dk_167 0 27 (dk_at dksX6_lay_2 11 rfl rfl)
theorem iX6_lay_39 {d : Nat} {L S : List MV} {M : MH} {Q : Out → MH → Prop}  (k : MW mX6_lay d 66 (L) S M Q) : MW mX6_lay d 39 (L) S M Q := mw_goto ⟨dX6_lay_39, rfl⟩ rfl k
theorem dX6_lay_42 : decode cX6_lay 42 = .ok (.aload_n 0, 1) := dk_42 (dk_at dksX6_lay_2 14 rfl rfl)
theorem iX6_lay_42 {d : Nat} {r S : List MV} {M : MH} {Q : Out → MH → Prop} {o : Option Nat} (k : MW mX6_lay d 43 (vr o :: r) (vr o :: S) M Q) : MW mX6_lay d 42 (vr o :: r) S M Q := mw_aload_n ⟨dX6_lay_42, rfl⟩ rfl k
theorem dX6_lay_43 : decode cX6_lay 43 = .ok (.getfield 7, 3) := dk_180 0 7 (dk_at dksX6_lay_2 15 rfl rfl)
theorem iX6_lay_43 {d : Nat} {L S : List MV} {M : MH} {Q : Out → MH → Prop} {a : Nat} {o : Option Nat} (hs : (msh M a).1 = 8) (hr : mrv M a 0 = o) (k : MW mX6_lay d 46 L (vr o :: S) M Q) : MW mX6_lay d 43 L (vp a :: S) M Q := mw_getR (ci := 8) (k := 0) ⟨dX6_lay_43, rfl⟩ ⟨_, rfl, Nat.le_of_ble_eq_true rfl, Or.inl q256⟩ rfl hs hr k
theorem dX6_lay_46 : decode cX6_lay 46 = .ok (.checkcast 15, 3) := dk_192 0 15 (dk_at dksX6_lay_2 18 rfl rfl)
theorem iX6_lay_46 {d : Nat} {L S : List MV} {M : MH} {Q : Out → MH → Prop} {a : Nat} (hC : ClsOf M a "[S") (k : MW mX6_lay d 49 L (vp a :: S) M Q) : MW mX6_lay d 46 L (vp a :: S) M Q := mw_castS ⟨dX6_lay_46, rfl⟩ q747 hC k
theorem dX6_lay_49 : decode cX6_lay 49 = .ok (.iload_n 2, 1) := dk_28 (dk_at dksX6_lay_2 21 rfl rfl)
theorem iX6_lay_49 {d : Nat} {r S : List MV} {M : MH} {Q : Out → MH → Prop} {w0 w1 : MV} {z : Int} (k : MW mX6_lay d 50 (w0 :: w1 :: vi z :: r) (vi z :: S) M Q) : MW mX6_lay d 49 (w0 :: w1 :: vi z :: r) S M Q := mw_iload_n ⟨dX6_lay_49, rfl⟩ rfl k
theorem dX6_lay_50 : decode cX6_lay 50 = .ok (.iload_n 3, 1) := dk_29 (dk_at dksX6_lay_2 22 rfl rfl)
theorem iX6_lay_50 {d : Nat} {r S : List MV} {M : MH} {Q : Out → MH → Prop} {w0 w1 w2 : MV} {z : Int} (k : MW mX6_lay d 51 (w0 :: w1 :: w2 :: vi z :: r) (vi z :: S) M Q) : MW mX6_lay d 50 (w0 :: w1 :: w2 :: vi z :: r) S M Q := mw_iload_n ⟨dX6_lay_50, rfl⟩ rfl k
theorem dX6_lay_51 : decode cX6_lay 51 = .ok (.i2s, 1) := dk_147 (dk_at dksX6_lay_2 23 rfl rfl)
theorem iX6_lay_51 {d : Nat} {L S : List MV} {M : MH} {Q : Out → MH → Prop} {a : Int} (k : MW mX6_lay d 52 (L) (vi (a.bmod 65536) :: S) M Q) : MW mX6_lay d 51 (L) (vi a :: S) M Q := mw_i2s ⟨dX6_lay_51, rfl⟩ k
theorem dX6_lay_52 : decode cX6_lay 52 = .ok (.sastore, 1) := dk_86 (dk_at dksX6_lay_3 0 rfl rfl)
theorem iX6_lay_52 {d : Nat} {L S : List MV} {M : MH} {Q : Out → MH → Prop} {a n : Nat} {z v : Int} (hs : msh M a = (103, n)) (hi : 0 ≤ z ∧ z < n) (hn : n ≤ 2147483647) (k : MW mX6_lay d 53 L S (wI M a z.toNat (v.bmod 65536)) Q) : MW mX6_lay d 52 L (vi v :: vi z :: vp a :: S) M Q := mw_sastore ⟨dX6_lay_52, rfl⟩ hs hn hi k
theorem dX6_lay_53 : decode cX6_lay 53 = .ok (.goto 13, 3) := dk_167 0 13 (dk_at dksX6_lay_3 1 rfl rfl)
theorem iX6_lay_53 {d : Nat} {L S : List MV} {M : MH} {Q : Out → MH → Prop}  (k : MW mX6_lay d 66 (L) S M Q) : MW mX6_lay d 53 (L) S M Q := mw_goto ⟨dX6_lay_53, rfl⟩ rfl k
theorem dX6_lay_56 : decode cX6_lay 56 = .ok (.aload_n 0, 1) := dk_42 (dk_at dksX6_lay_3 4 rfl rfl)
theorem iX6_lay_56 {d : Nat} {r S : List MV} {M : MH} {Q : Out → MH → Prop} {o : Option Nat} (k : MW mX6_lay d 57 (vr o :: r) (vr o :: S) M Q) : MW mX6_lay d 56 (vr o :: r) S M Q := mw_aload_n ⟨dX6_lay_56, rfl⟩ rfl k
theorem dX6_lay_57 : decode cX6_lay 57 = .ok (.getfield 7, 3) := dk_180 0 7 (dk_at dksX6_lay_3 5 rfl rfl)
theorem iX6_lay_57 {d : Nat} {L S : List MV} {M : MH} {Q : Out → MH → Prop} {a : Nat} {o : Option Nat} (hs : (msh M a).1 = 8) (hr : mrv M a 0 = o) (k : MW mX6_lay d 60 L (vr o :: S) M Q) : MW mX6_lay d 57 L (vp a :: S) M Q := mw_getR (ci := 8) (k := 0) ⟨dX6_lay_57, rfl⟩ ⟨_, rfl, Nat.le_of_ble_eq_true rfl, Or.inl q256⟩ rfl hs hr k
theorem dX6_lay_60 : decode cX6_lay 60 = .ok (.checkcast 21, 3) := dk_192 0 21 (dk_at dksX6_lay_3 8 rfl rfl)
theorem iX6_lay_60 {d : Nat} {L S : List MV} {M : MH} {Q : Out → MH → Prop} {a : Nat} (hC : ClsOf M a "[I") (k : MW mX6_lay d 63 L (vp a :: S) M Q) : MW mX6_lay d 60 L (vp a :: S) M Q := mw_castS ⟨dX6_lay_60, rfl⟩ q748 hC k
theorem dX6_lay_63 : decode cX6_lay 63 = .ok (.iload_n 2, 1) := dk_28 (dk_at dksX6_lay_3 11 rfl rfl)
theorem iX6_lay_63 {d : Nat} {r S : List MV} {M : MH} {Q : Out → MH → Prop} {w0 w1 : MV} {z : Int} (k : MW mX6_lay d 64 (w0 :: w1 :: vi z :: r) (vi z :: S) M Q) : MW mX6_lay d 63 (w0 :: w1 :: vi z :: r) S M Q := mw_iload_n ⟨dX6_lay_63, rfl⟩ rfl k
theorem dX6_lay_64 : decode cX6_lay 64 = .ok (.iload_n 3, 1) := dk_29 (dk_at dksX6_lay_3 12 rfl rfl)
theorem iX6_lay_64 {d : Nat} {r S : List MV} {M : MH} {Q : Out → MH → Prop} {w0 w1 w2 : MV} {z : Int} (k : MW mX6_lay d 65 (w0 :: w1 :: w2 :: vi z :: r) (vi z :: S) M Q) : MW mX6_lay d 64 (w0 :: w1 :: w2 :: vi z :: r) S M Q := mw_iload_n ⟨dX6_lay_64, rfl⟩ rfl k
theorem dX6_lay_65 : decode cX6_lay 65 = .ok (.iastore, 1) := dk_79 (dk_at dksX6_lay_3 13 rfl rfl)
theorem iX6_lay_65 {d : Nat} {L S : List MV} {M : MH} {Q : Out → MH → Prop} {a n : Nat} {z v : Int} (hs : msh M a = (100, n)) (hi : 0 ≤ z ∧ z < n) (k : MW mX6_lay d 66 L S (wI M a z.toNat v) Q) (hn : Nat.ble n 2147483647 = true := by rfl) : MW mX6_lay d 65 L (vi v :: vi z :: vp a :: S) M Q := mw_iastore ⟨dX6_lay_65, rfl⟩ hs (Nat.le_of_ble_eq_true hn) hi k
theorem dX6_lay_66 : decode cX6_lay 66 = .ok (.return_, 1) := dk_177 (dk_at dksX6_lay_3 14 rfl rfl)
theorem iX6_lay_66 {d : Nat} {L : List MV} {M : MH} {P : MH → Prop} (hq : P M) : MW mX6_lay d 66 L [] M (Rv P) := mw_retv ⟨dX6_lay_66, rfl⟩ rfl hq
/-! X8_init -/
def dkwX8_init_0 : List UInt8 := [42, 1, 1, 3, 3, 183, 0, 1, 42, 27, 181, 0, 7, 177]
abbrev dktX8_init_0 : List UInt8 := dkwX8_init_0 ++ []
theorem dksX8_init_0 : cX8_init.data.toList.drop 0 = dktX8_init_0 := by decide +kernel
theorem dX8_init_0 : decode cX8_init 0 = .ok (.aload_n 0, 1) := dk_42 (dk_at dksX8_init_0 0 rfl rfl)
theorem iX8_init_0 {d : Nat} {r S : List MV} {M : MH} {Q : Out → MH → Prop} {o : Option Nat} (k : MW mX8_init d 1 (vr o :: r) (vr o :: S) M Q) : MW mX8_init d 0 (vr o :: r) S M Q := mw_aload_n ⟨dX8_init_0, rfl⟩ rfl k
theorem dX8_init_1 : decode cX8_init 1 = .ok (.aconst_null, 1) := dk_1 (dk_at dksX8_init_0 1 rfl rfl)
theorem iX8_init_1 {d : Nat} {L S : List MV} {M : MH} {Q : Out → MH → Prop}  (k : MW mX8_init d 2 (L) (vr none :: S) M Q) : MW mX8_init d 1 (L) S M Q := mw_null ⟨dX8_init_1, rfl⟩ k
theorem dX8_init_2 : decode cX8_init 2 = .ok (.aconst_null, 1) := dk_1 (dk_at dksX8_init_0 2 rfl rfl)
theorem iX8_init_2 {d : Nat} {L S : List MV} {M : MH} {Q : Out → MH → Prop}  (k : MW mX8_init d 3 (L) (vr none :: S) M Q) : MW mX8_init d 2 (L) S M Q := mw_null ⟨dX8_init_2, rfl⟩ k
theorem dX8_init_3 : decode cX8_init 3 = .ok (.iconst 0, 1) := dk_3 (dk_at dksX8_init_0 3 rfl rfl)
theorem iX8_init_3 {d : Nat} {L S : List MV} {M : MH} {Q : Out → MH → Prop}  (k : MW mX8_init d 4 (L) (vi 0 :: S) M Q) : MW mX8_init d 3 (L) S M Q := mw_iconst ⟨dX8_init_3, rfl⟩ k
theorem dX8_init_4 : decode cX8_init 4 = .ok (.iconst 0, 1) := dk_3 (dk_at dksX8_init_0 4 rfl rfl)
theorem iX8_init_4 {d : Nat} {L S : List MV} {M : MH} {Q : Out → MH → Prop}  (k : MW mX8_init d 5 (L) (vi 0 :: S) M Q) : MW mX8_init d 4 (L) S M Q := mw_iconst ⟨dX8_init_4, rfl⟩ k
theorem dX8_init_5 : decode cX8_init 5 = .ok (.invokespecial 1, 3) := dk_183 0 1 (dk_at dksX8_init_0 5 rfl rfl)
theorem iX8_init_5 {d : Nat} {L S : List MV} {M : MH} {Q : Out → MH → Prop} {v1 v2 v3 v4 : MV} {b : Nat} {P : MH → Prop} (hM : MCv mJ4_init d [vp b, v1, v2, v3, v4] M P) (k : ∀ M', P M' → MW mX8_init (d + 1) 8 L S M' Q) (h8 : Nat.ble (S.map mcat).sum 8 = true := by rfl) : MW mX8_init (d + 1) 5 L (v4 :: v3 :: v2 :: v1 :: vp b :: S) M Q := mw_callv (as := [vp b, v1, v2, v3, v4]) (site_I (Y' := mJ4_init) (n := 4) ⟨dX8_init_5, rfl⟩ (Or.inl q458) q459 q460 rfl nJ4_init hJ4_init rfl) kJ4_init (Nat.le_of_ble_eq_true h8) hM k
theorem dX8_init_8 : decode cX8_init 8 = .ok (.aload_n 0, 1) := dk_42 (dk_at dksX8_init_0 8 rfl rfl)
theorem iX8_init_8 {d : Nat} {r S : List MV} {M : MH} {Q : Out → MH → Prop} {o : Option Nat} (k : MW mX8_init d 9 (vr o :: r) (vr o :: S) M Q) : MW mX8_init d 8 (vr o :: r) S M Q := mw_aload_n ⟨dX8_init_8, rfl⟩ rfl k
theorem dX8_init_9 : decode cX8_init 9 = .ok (.iload_n 1, 1) := dk_27 (dk_at dksX8_init_0 9 rfl rfl)
theorem iX8_init_9 {d : Nat} {r S : List MV} {M : MH} {Q : Out → MH → Prop} {w0 : MV} {z : Int} (k : MW mX8_init d 10 (w0 :: vi z :: r) (vi z :: S) M Q) : MW mX8_init d 9 (w0 :: vi z :: r) S M Q := mw_iload_n ⟨dX8_init_9, rfl⟩ rfl k
theorem dX8_init_10 : decode cX8_init 10 = .ok (.putfield 7, 3) := dk_181 0 7 (dk_at dksX8_init_0 10 rfl rfl)
theorem iX8_init_10 {d : Nat} {L S : List MV} {M : MH} {Q : Out → MH → Prop} {a : Nat} {z : Int} (hs : (msh M a).1 = 9) (k : MW mX8_init d 13 L S (wI M a 6 z) Q) : MW mX8_init d 10 L (vi z :: vp a :: S) M Q := mw_putI (ci := 9) (k := 6) ⟨dX8_init_10, rfl⟩ ⟨_, rfl, Nat.le_of_ble_eq_true rfl, Or.inr ⟨rfl, rfl, rfl, q464⟩⟩ rfl hs k
theorem dX8_init_13 : decode cX8_init 13 = .ok (.return_, 1) := dk_177 (dk_at dksX8_init_0 13 rfl rfl)
theorem iX8_init_13 {d : Nat} {L : List MV} {M : MH} {P : MH → Prop} (hq : P M) : MW mX8_init d 13 L [] M (Rv P) := mw_retv ⟨dX8_init_13, rfl⟩ rfl hq
/-! X9_init -/
def dkwX9_init_0 : List UInt8 := [42, 183, 0, 1, 42, 27, 181, 0, 7, 42, 28, 181, 0, 13, 177]
abbrev dktX9_init_0 : List UInt8 := dkwX9_init_0 ++ []
theorem dksX9_init_0 : cX9_init.data.toList.drop 0 = dktX9_init_0 := by decide +kernel
theorem dX9_init_0 : decode cX9_init 0 = .ok (.aload_n 0, 1) := dk_42 (dk_at dksX9_init_0 0 rfl rfl)
theorem iX9_init_0 {d : Nat} {r S : List MV} {M : MH} {Q : Out → MH → Prop} {o : Option Nat} (k : MW mX9_init d 1 (vr o :: r) (vr o :: S) M Q) : MW mX9_init d 0 (vr o :: r) S M Q := mw_aload_n ⟨dX9_init_0, rfl⟩ rfl k
theorem dX9_init_1 : decode cX9_init 1 = .ok (.invokespecial 1, 3) := dk_183 0 1 (dk_at dksX9_init_0 1 rfl rfl)
theorem iX9_init_1 {d : Nat} {L S : List MV} {M : MH} {Q : Out → MH → Prop} {a : Nat} (k : MW mX9_init (d + 1) 4 L S M Q) (h8 : Nat.ble (S.map mcat).sum 8 = true := by rfl) : MW mX9_init (d + 1) 1 L (vp a :: S) M Q := mw_objInit ⟨dX9_init_1, rfl⟩ q521 q125 q126 (Nat.le_of_ble_eq_true h8) k
theorem dX9_init_4 : decode cX9_init 4 = .ok (.aload_n 0, 1) := dk_42 (dk_at dksX9_init_0 4 rfl rfl)
theorem iX9_init_4 {d : Nat} {r S : List MV} {M : MH} {Q : Out → MH → Prop} {o : Option Nat} (k : MW mX9_init d 5 (vr o :: r) (vr o :: S) M Q) : MW mX9_init d 4 (vr o :: r) S M Q := mw_aload_n ⟨dX9_init_4, rfl⟩ rfl k
theorem dX9_init_5 : decode cX9_init 5 = .ok (.iload_n 1, 1) := dk_27 (dk_at dksX9_init_0 5 rfl rfl)
theorem iX9_init_5 {d : Nat} {r S : List MV} {M : MH} {Q : Out → MH → Prop} {w0 : MV} {z : Int} (k : MW mX9_init d 6 (w0 :: vi z :: r) (vi z :: S) M Q) : MW mX9_init d 5 (w0 :: vi z :: r) S M Q := mw_iload_n ⟨dX9_init_5, rfl⟩ rfl k
theorem dX9_init_6 : decode cX9_init 6 = .ok (.putfield 7, 3) := dk_181 0 7 (dk_at dksX9_init_0 6 rfl rfl)
theorem iX9_init_6 {d : Nat} {L S : List MV} {M : MH} {Q : Out → MH → Prop} {a : Nat} {z : Int} (hs : (msh M a).1 = 5) (k : MW mX9_init d 9 L S (wI M a 0 z) Q) : MW mX9_init d 6 L (vi z :: vp a :: S) M Q := mw_putI (ci := 5) (k := 0) ⟨dX9_init_6, rfl⟩ ⟨_, rfl, Nat.le_of_ble_eq_true rfl, Or.inr ⟨rfl, rfl, rfl, q522⟩⟩ rfl hs k
theorem dX9_init_9 : decode cX9_init 9 = .ok (.aload_n 0, 1) := dk_42 (dk_at dksX9_init_0 9 rfl rfl)
theorem iX9_init_9 {d : Nat} {r S : List MV} {M : MH} {Q : Out → MH → Prop} {o : Option Nat} (k : MW mX9_init d 10 (vr o :: r) (vr o :: S) M Q) : MW mX9_init d 9 (vr o :: r) S M Q := mw_aload_n ⟨dX9_init_9, rfl⟩ rfl k
theorem dX9_init_10 : decode cX9_init 10 = .ok (.iload_n 2, 1) := dk_28 (dk_at dksX9_init_0 10 rfl rfl)
theorem iX9_init_10 {d : Nat} {r S : List MV} {M : MH} {Q : Out → MH → Prop} {w0 w1 : MV} {z : Int} (k : MW mX9_init d 11 (w0 :: w1 :: vi z :: r) (vi z :: S) M Q) : MW mX9_init d 10 (w0 :: w1 :: vi z :: r) S M Q := mw_iload_n ⟨dX9_init_10, rfl⟩ rfl k
theorem dX9_init_11 : decode cX9_init 11 = .ok (.putfield 13, 3) := dk_181 0 13 (dk_at dksX9_init_0 11 rfl rfl)
theorem iX9_init_11 {d : Nat} {L S : List MV} {M : MH} {Q : Out → MH → Prop} {a : Nat} {z : Int} (hs : (msh M a).1 = 5) (k : MW mX9_init d 14 L S (wI M a 1 z) Q) : MW mX9_init d 11 L (vi z :: vp a :: S) M Q := mw_putI (ci := 5) (k := 1) ⟨dX9_init_11, rfl⟩ ⟨_, rfl, Nat.le_of_ble_eq_true rfl, Or.inr ⟨rfl, rfl, rfl, q524⟩⟩ rfl hs k
theorem dX9_init_14 : decode cX9_init 14 = .ok (.return_, 1) := dk_177 (dk_at dksX9_init_0 14 rfl rfl)
theorem iX9_init_14 {d : Nat} {L : List MV} {M : MH} {P : MH → Prop} (hq : P M) : MW mX9_init d 14 L [] M (Rv P) := mw_retv ⟨dX9_init_14, rfl⟩ rfl hq
/-! X9_isLocked -/
def dkwX9_isLocked_0 : List UInt8 := [42, 180, 0, 7, 5, 160, 0, 7, 4, 167, 0, 4, 3, 172]
abbrev dktX9_isLocked_0 : List UInt8 := dkwX9_isLocked_0 ++ []
theorem dksX9_isLocked_0 : cX9_isLocked.data.toList.drop 0 = dktX9_isLocked_0 := by decide +kernel
theorem dX9_isLocked_0 : decode cX9_isLocked 0 = .ok (.aload_n 0, 1) := dk_42 (dk_at dksX9_isLocked_0 0 rfl rfl)
theorem iX9_isLocked_0 {d : Nat} {r S : List MV} {M : MH} {Q : Out → MH → Prop} {o : Option Nat} (k : MW mX9_isLocked d 1 (vr o :: r) (vr o :: S) M Q) : MW mX9_isLocked d 0 (vr o :: r) S M Q := mw_aload_n ⟨dX9_isLocked_0, rfl⟩ rfl k
theorem dX9_isLocked_1 : decode cX9_isLocked 1 = .ok (.getfield 7, 3) := dk_180 0 7 (dk_at dksX9_isLocked_0 1 rfl rfl)
theorem iX9_isLocked_1 {d : Nat} {L S : List MV} {M : MH} {Q : Out → MH → Prop} {a : Nat} (hs : (msh M a).1 = 5) (k : MW mX9_isLocked d 4 L (vi (miv M a 0) :: S) M Q) : MW mX9_isLocked d 1 L (vp a :: S) M Q := mw_getI (ci := 5) (k := 0) ⟨dX9_isLocked_1, rfl⟩ ⟨_, rfl, Nat.le_of_ble_eq_true rfl, Or.inl q522⟩ rfl hs k
theorem dX9_isLocked_4 : decode cX9_isLocked 4 = .ok (.iconst 2, 1) := dk_5 (dk_at dksX9_isLocked_0 4 rfl rfl)
theorem iX9_isLocked_4 {d : Nat} {L S : List MV} {M : MH} {Q : Out → MH → Prop}  (k : MW mX9_isLocked d 5 (L) (vi 2 :: S) M Q) : MW mX9_isLocked d 4 (L) S M Q := mw_iconst ⟨dX9_isLocked_4, rfl⟩ k
theorem dX9_isLocked_5 : decode cX9_isLocked 5 = .ok (.if_icmp .ne 7, 3) := dk_160 0 7 (dk_at dksX9_isLocked_0 5 rfl rfl)
theorem iX9_isLocked_5 {d : Nat} {L S : List MV} {M : MH} {Q : Out → MH → Prop} {a b : Int} (ha : inR a) (hb : inR b) (kt : a ≠ b → MW mX9_isLocked d 12 L S M Q) (kf : a = b → MW mX9_isLocked d 8 L S M Q) : MW mX9_isLocked d 5 L (vi b :: vi a :: S) M Q := mw_icmp_ne ⟨dX9_isLocked_5, rfl⟩ rfl ha hb kt kf
theorem dX9_isLocked_8 : decode cX9_isLocked 8 = .ok (.iconst 1, 1) := dk_4 (dk_at dksX9_isLocked_0 8 rfl rfl)
theorem iX9_isLocked_8 {d : Nat} {L S : List MV} {M : MH} {Q : Out → MH → Prop}  (k : MW mX9_isLocked d 9 (L) (vi 1 :: S) M Q) : MW mX9_isLocked d 8 (L) S M Q := mw_iconst ⟨dX9_isLocked_8, rfl⟩ k
theorem dX9_isLocked_9 : decode cX9_isLocked 9 = .ok (.goto 4, 3) := dk_167 0 4 (dk_at dksX9_isLocked_0 9 rfl rfl)
theorem iX9_isLocked_9 {d : Nat} {L S : List MV} {M : MH} {Q : Out → MH → Prop}  (k : MW mX9_isLocked d 13 (L) S M Q) : MW mX9_isLocked d 9 (L) S M Q := mw_goto ⟨dX9_isLocked_9, rfl⟩ rfl k
theorem dX9_isLocked_12 : decode cX9_isLocked 12 = .ok (.iconst 0, 1) := dk_3 (dk_at dksX9_isLocked_0 12 rfl rfl)
theorem iX9_isLocked_12 {d : Nat} {L S : List MV} {M : MH} {Q : Out → MH → Prop}  (k : MW mX9_isLocked d 13 (L) (vi 0 :: S) M Q) : MW mX9_isLocked d 12 (L) S M Q := mw_iconst ⟨dX9_isLocked_12, rfl⟩ k
theorem dX9_isLocked_13 : decode cX9_isLocked 13 = .ok (.ireturn, 1) := dk_172 (dk_at dksX9_isLocked_0 13 rfl rfl)
theorem iX9_isLocked_13 {d : Nat} {L : List MV} {M : MH} {P : Int → MH → Prop} {z : Int} (hz : z = 0 ∨ z = 1) (hq : P z M) : MW mX9_isLocked d 13 L [vi z] M (Ri P) := mw_retz ⟨dX9_isLocked_13, rfl⟩ rfl hz hq
/-! X10_init -/
def dkwX10_init_0 : List UInt8 := [42, 183, 0, 1, 42, 27, 181, 0, 7, 42, 28, 181, 0, 13, 177]
abbrev dktX10_init_0 : List UInt8 := dkwX10_init_0 ++ []
theorem dksX10_init_0 : cX10_init.data.toList.drop 0 = dktX10_init_0 := by decide +kernel
theorem dX10_init_0 : decode cX10_init 0 = .ok (.aload_n 0, 1) := dk_42 (dk_at dksX10_init_0 0 rfl rfl)
theorem iX10_init_0 {d : Nat} {r S : List MV} {M : MH} {Q : Out → MH → Prop} {o : Option Nat} (k : MW mX10_init d 1 (vr o :: r) (vr o :: S) M Q) : MW mX10_init d 0 (vr o :: r) S M Q := mw_aload_n ⟨dX10_init_0, rfl⟩ rfl k
theorem dX10_init_1 : decode cX10_init 1 = .ok (.invokespecial 1, 3) := dk_183 0 1 (dk_at dksX10_init_0 1 rfl rfl)
theorem iX10_init_1 {d : Nat} {L S : List MV} {M : MH} {Q : Out → MH → Prop} {a : Nat} (k : MW mX10_init (d + 1) 4 L S M Q) (h8 : Nat.ble (S.map mcat).sum 8 = true := by rfl) : MW mX10_init (d + 1) 1 L (vp a :: S) M Q := mw_objInit ⟨dX10_init_1, rfl⟩ q546 q125 q126 (Nat.le_of_ble_eq_true h8) k
theorem dX10_init_4 : decode cX10_init 4 = .ok (.aload_n 0, 1) := dk_42 (dk_at dksX10_init_0 4 rfl rfl)
theorem iX10_init_4 {d : Nat} {r S : List MV} {M : MH} {Q : Out → MH → Prop} {o : Option Nat} (k : MW mX10_init d 5 (vr o :: r) (vr o :: S) M Q) : MW mX10_init d 4 (vr o :: r) S M Q := mw_aload_n ⟨dX10_init_4, rfl⟩ rfl k
theorem dX10_init_5 : decode cX10_init 5 = .ok (.iload_n 1, 1) := dk_27 (dk_at dksX10_init_0 5 rfl rfl)
theorem iX10_init_5 {d : Nat} {r S : List MV} {M : MH} {Q : Out → MH → Prop} {w0 : MV} {z : Int} (k : MW mX10_init d 6 (w0 :: vi z :: r) (vi z :: S) M Q) : MW mX10_init d 5 (w0 :: vi z :: r) S M Q := mw_iload_n ⟨dX10_init_5, rfl⟩ rfl k
theorem dX10_init_6 : decode cX10_init 6 = .ok (.putfield 7, 3) := dk_181 0 7 (dk_at dksX10_init_0 6 rfl rfl)
theorem iX10_init_6 {d : Nat} {L S : List MV} {M : MH} {Q : Out → MH → Prop} {a : Nat} {z : Int} (hs : (msh M a).1 = 4) (k : MW mX10_init d 9 L S (wI M a 0 z) Q) : MW mX10_init d 6 L (vi z :: vp a :: S) M Q := mw_putI (ci := 4) (k := 0) ⟨dX10_init_6, rfl⟩ ⟨_, rfl, Nat.le_of_ble_eq_true rfl, Or.inr ⟨rfl, rfl, rfl, q547⟩⟩ rfl hs k
theorem dX10_init_9 : decode cX10_init 9 = .ok (.aload_n 0, 1) := dk_42 (dk_at dksX10_init_0 9 rfl rfl)
theorem iX10_init_9 {d : Nat} {r S : List MV} {M : MH} {Q : Out → MH → Prop} {o : Option Nat} (k : MW mX10_init d 10 (vr o :: r) (vr o :: S) M Q) : MW mX10_init d 9 (vr o :: r) S M Q := mw_aload_n ⟨dX10_init_9, rfl⟩ rfl k
theorem dX10_init_10 : decode cX10_init 10 = .ok (.iload_n 2, 1) := dk_28 (dk_at dksX10_init_0 10 rfl rfl)
theorem iX10_init_10 {d : Nat} {r S : List MV} {M : MH} {Q : Out → MH → Prop} {w0 w1 : MV} {z : Int} (k : MW mX10_init d 11 (w0 :: w1 :: vi z :: r) (vi z :: S) M Q) : MW mX10_init d 10 (w0 :: w1 :: vi z :: r) S M Q := mw_iload_n ⟨dX10_init_10, rfl⟩ rfl k
theorem dX10_init_11 : decode cX10_init 11 = .ok (.putfield 13, 3) := dk_181 0 13 (dk_at dksX10_init_0 11 rfl rfl)
theorem iX10_init_11 {d : Nat} {L S : List MV} {M : MH} {Q : Out → MH → Prop} {a : Nat} {z : Int} (hs : (msh M a).1 = 4) (k : MW mX10_init d 14 L S (wI M a 1 z) Q) : MW mX10_init d 11 L (vi z :: vp a :: S) M Q := mw_putI (ci := 4) (k := 1) ⟨dX10_init_11, rfl⟩ ⟨_, rfl, Nat.le_of_ble_eq_true rfl, Or.inr ⟨rfl, rfl, rfl, q551⟩⟩ rfl hs k
theorem dX10_init_14 : decode cX10_init 14 = .ok (.return_, 1) := dk_177 (dk_at dksX10_init_0 14 rfl rfl)
theorem iX10_init_14 {d : Nat} {L : List MV} {M : MH} {P : MH → Prop} (hq : P M) : MW mX10_init d 14 L [] M (Rv P) := mw_retv ⟨dX10_init_14, rfl⟩ rfl hq
