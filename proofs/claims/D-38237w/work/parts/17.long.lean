/-! ===== rows for longs and floating numbers ===== -/
set_option maxRecDepth 100000
section LNG
variable {w : Wd} {K : KT} {own nm : String} {cc : ByteArray} {nL : Nat} {ret : Option FieldType} {fr lo mc ms : Nat} {h : Hp} {n k pc : Nat} {L : List (Option Value)} {st : List Value}
/-- an int as a long -/
def iL (z : Int) : Int64 := (Int32.ofInt z).toInt64
theorem k_i2l {z : Int} (C : Cx w K own cc nL ret nm fr lo mc ms) (hd : decode cc pc = .ok (.i2l, 1)) (kk : Wk w K h n k (pc + 1) L (.long (iL z) :: st)) : Wk w K h n k pc L (jI z :: st) := by
  intro H locs ls R hl hL
  exact lv_i2l C.1 C.2.1 hd rfl (kk H locs ls R hl hL)
theorem k_l2i {x : Int64} {z : Int} (C : Cx w K own cc nL ret nm fr lo mc ms) (hd : decode cc pc = .ok (.l2i, 1)) (hv : x.toInt32 = Int32.ofInt z) (kk : Wk w K h n k (pc + 1) L (jI z :: st)) : Wk w K h n k pc L (.long x :: st) := by
  intro H locs ls R hl hL
  exact lv_l2i C.1 C.2.1 hd hv (kk H locs ls R hl hL)
theorem k_ladd {x y : Int64} (C : Cx w K own cc nL ret nm fr lo mc ms) (hd : decode cc pc = .ok (.ladd, 1)) (kk : Wk w K h n k (pc + 1) L (.long (x + y) :: st)) : Wk w K h n k pc L (.long y :: .long x :: st) := by
  intro H locs ls R hl hL
  exact lv_ladd C.1 C.2.1 hd (kk H locs ls R hl hL)
theorem k_lmul {x y : Int64} (C : Cx w K own cc nL ret nm fr lo mc ms) (hd : decode cc pc = .ok (.lmul, 1)) (kk : Wk w K h n k (pc + 1) L (.long (x * y) :: st)) : Wk w K h n k pc L (.long y :: .long x :: st) := by
  intro H locs ls R hl hL
  exact lv_lmul C.1 C.2.1 hd (kk H locs ls R hl hL)
theorem k_land {x y : Int64} (C : Cx w K own cc nL ret nm fr lo mc ms) (hd : decode cc pc = .ok (.land, 1)) (kk : Wk w K h n k (pc + 1) L (.long (x &&& y) :: st)) : Wk w K h n k pc L (.long y :: .long x :: st) := by
  intro H locs ls R hl hL
  exact lv_land C.1 C.2.1 hd (kk H locs ls R hl hL)
theorem k_lor {x y : Int64} (C : Cx w K own cc nL ret nm fr lo mc ms) (hd : decode cc pc = .ok (.lor, 1)) (kk : Wk w K h n k (pc + 1) L (.long (x ||| y) :: st)) : Wk w K h n k pc L (.long y :: .long x :: st) := by
  intro H locs ls R hl hL
  exact lv_lor C.1 C.2.1 hd (kk H locs ls R hl hL)
theorem k_lconst {j : Fin 2} {v : Int64} (C : Cx w K own cc nL ret nm fr lo mc ms) (hd : decode cc pc = .ok (.lconst j, 1)) (hv : Int64.ofNat (j : Nat) = v) (kk : Wk w K h n k (pc + 1) L (.long v :: st)) : Wk w K h n k pc L st := by
  intro H locs ls R hl hL
  exact lv_lconst C.1 C.2.1 hd hv (kk H locs ls R hl hL)
theorem k_lcmp {x y : Int64} {z : Int} (C : Cx w K own cc nL ret nm fr lo mc ms) (hd : decode cc pc = .ok (.lcmp, 1)) (hv : lg_cmp x y = Int32.ofInt z) (kk : Wk w K h n k (pc + 1) L (jI z :: st)) : Wk w K h n k pc L (.long y :: .long x :: st) := by
  intro H locs ls R hl hL
  refine W.lcmp C.1 C.2.1 hd ?_
  rw [hv]
  exact kk H locs ls R hl hL
theorem k_ldc2 {idx : Nat} {v : Int64} (C : Cx w K own cc nL ret nm fr lo mc ms) (q : Cond.constantLong own idx v ∈ lw_all) (hd : decode cc pc = .ok (.ldc2_w idx, 3)) (kk : Wk w K h n k (pc + 3) L (.long v :: st)) : Wk w K h n k pc L st := by
  intro H locs ls R hl hL
  exact lv_ldc2 C.1 C.2.1 C.ownC (C.hts _ q) hd (kk H locs ls R hl hL)
theorem k_ldc2d {idx : Nat} {v : UInt64} (C : Cx w K own cc nL ret nm fr lo mc ms) (q : Cond.constantDouble own idx v ∈ lw_all) (hd : decode cc pc = .ok (.ldc2_w idx, 3)) (kk : Wk w K h n k (pc + 3) L (.double v :: st)) : Wk w K h n k pc L st := by
  intro H locs ls R hl hL
  exact lv_ldc2d C.1 C.2.1 C.ownC (C.hts _ q) hd (kk H locs ls R hl hL)
theorem k_dconst0 (C : Cx w K own cc nL ret nm fr lo mc ms) (hd : decode cc pc = .ok (.dconst 0, 1)) (kk : Wk w K h n k (pc + 1) L (.double FP.dconst0 :: st)) : Wk w K h n k pc L st := by
  intro H locs ls R hl hL
  exact lv_dconst0 C.1 C.2.1 hd (kk H locs ls R hl hL)
theorem k_dconst1 (C : Cx w K own cc nL ret nm fr lo mc ms) (hd : decode cc pc = .ok (.dconst 1, 1)) (kk : Wk w K h n k (pc + 1) L (.double FP.dconst1 :: st)) : Wk w K h n k pc L st := by
  intro H locs ls R hl hL
  exact lv_dconst1 C.1 C.2.1 hd (kk H locs ls R hl hL)
theorem k_i2d {z : Int} (C : Cx w K own cc nL ret nm fr lo mc ms) (hd : decode cc pc = .ok (.i2d, 1)) (kk : Wk w K h n k (pc + 1) L (.double (FP.i2d (Int32.ofInt z)) :: st)) : Wk w K h n k pc L (jI z :: st) := by
  intro H locs ls R hl hL
  exact lv_i2d C.1 C.2.1 hd (kk H locs ls R hl hL)
theorem k_ddiv {x y : UInt64} (C : Cx w K own cc nL ret nm fr lo mc ms) (hd : decode cc pc = .ok (.ddiv, 1)) (hne : vf_n64 (FP.ddiv x y)) (kk : Wk w K h n k (pc + 1) L (.double (FP.ddiv x y) :: st)) : Wk w K h n k pc L (.double y :: .double x :: st) := by
  intro H locs ls R hl hL
  exact lv_ddiv C.1 C.2.1 hd hne (kk H locs ls R hl hL)
theorem k_dmul {x y : UInt64} (C : Cx w K own cc nL ret nm fr lo mc ms) (hd : decode cc pc = .ok (.dmul, 1)) (hne : vf_n64 (FP.dmul x y)) (kk : Wk w K h n k (pc + 1) L (.double (FP.dmul x y) :: st)) : Wk w K h n k pc L (.double y :: .double x :: st) := by
  intro H locs ls R hl hL
  exact lv_dmul C.1 C.2.1 hd hne (kk H locs ls R hl hL)
theorem k_dadd {x y : UInt64} (C : Cx w K own cc nL ret nm fr lo mc ms) (hd : decode cc pc = .ok (.dadd, 1)) (hne : vf_n64 (FP.dadd x y)) (kk : Wk w K h n k (pc + 1) L (.double (FP.dadd x y) :: st)) : Wk w K h n k pc L (.double y :: .double x :: st) := by
  intro H locs ls R hl hL
  exact lv_dadd C.1 C.2.1 hd hne (kk H locs ls R hl hL)
theorem k_dsub {x y : UInt64} (C : Cx w K own cc nL ret nm fr lo mc ms) (hd : decode cc pc = .ok (.dsub, 1)) (hne : vf_n64 (FP.dsub x y)) (kk : Wk w K h n k (pc + 1) L (.double (FP.dsub x y) :: st)) : Wk w K h n k pc L (.double y :: .double x :: st) := by
  intro H locs ls R hl hL
  exact lv_dsub C.1 C.2.1 hd hne (kk H locs ls R hl hL)
theorem k_dcmp {x y : UInt64} {op : CmpOp} {z : Int} (C : Cx w K own cc nL ret nm fr lo mc ms) (hd : decode cc pc = .ok (.dcmp op, 1)) (hv : Op.cmpValue (FP.dcmp x y) op = Int32.ofInt z) (kk : Wk w K h n k (pc + 1) L (jI z :: st)) : Wk w K h n k pc L (.double y :: .double x :: st) := by
  intro H locs ls R hl hL
  refine lv_dcmp C.1 C.2.1 hd ?_
  rw [hv]
  exact kk H locs ls R hl hL
theorem k_i2f {z : Int} (C : Cx w K own cc nL ret nm fr lo mc ms) (hd : decode cc pc = .ok (.i2f, 1)) (kk : Wk w K h n k (pc + 1) L (.float (FP.i2f (Int32.ofInt z)) :: st)) : Wk w K h n k pc L (jI z :: st) := by
  intro H locs ls R hl hL
  exact lv_i2f C.1 C.2.1 hd (kk H locs ls R hl hL)
theorem k_fmul {x y : UInt32} (C : Cx w K own cc nL ret nm fr lo mc ms) (hd : decode cc pc = .ok (.fmul, 1)) (hne : vf_n32 (FP.fmul x y)) (kk : Wk w K h n k (pc + 1) L (.float (FP.fmul x y) :: st)) : Wk w K h n k pc L (.float y :: .float x :: st) := by
  intro H locs ls R hl hL
  exact lv_fmul C.1 C.2.1 hd hne (kk H locs ls R hl hL)
theorem k_fdiv {x y : UInt32} (C : Cx w K own cc nL ret nm fr lo mc ms) (hd : decode cc pc = .ok (.fdiv, 1)) (hne : vf_n32 (FP.fdiv x y)) (kk : Wk w K h n k (pc + 1) L (.float (FP.fdiv x y) :: st)) : Wk w K h n k pc L (.float y :: .float x :: st) := by
  intro H locs ls R hl hL
  exact lv_fdiv C.1 C.2.1 hd hne (kk H locs ls R hl hL)
theorem k_f2l {x : UInt32} (C : Cx w K own cc nL ret nm fr lo mc ms) (hd : decode cc pc = .ok (.f2l, 1)) (kk : Wk w K h n k (pc + 1) L (.long (FP.f2l x) :: st)) : Wk w K h n k pc L (.float x :: st) := by
  intro H locs ls R hl hL
  exact lv_f2l C.1 C.2.1 hd (kk H locs ls R hl hL)
theorem k_iushr {a b : Int} (C : Cx w K own cc nL ret nm fr lo mc ms) (hd : decode cc pc = .ok (.iushr, 1)) (hv : ((Int32.ofInt a).toUInt32 >>> ((Int32.ofInt b).toUInt32 &&& Int32.toUInt32 31)).toInt32 = Int32.ofInt (a / 2 ^ b.toNat)) (kk : Wk w K h n k (pc + 1) L (jI (a / 2 ^ b.toNat) :: st)) : Wk w K h n k pc L (jI b :: jI a :: st) := by
  intro H locs ls R hl hL
  exact lv_iushr C.1 C.2.1 hd hv (kk H locs ls R hl hL)
theorem k_ldcwf {idx : Nat} {v : UInt32} (C : Cx w K own cc nL ret nm fr lo mc ms) (q : Cond.constantFloat own idx v ∈ lw_all) (hd : decode cc pc = .ok (.ldc_w idx, 3)) (kk : Wk w K h n k (pc + 3) L (.float v :: st)) : Wk w K h n k pc L st := by
  intro H locs ls R hl hL T hT X
  obtain ⟨t, a, b⟩ := kk H locs ls R hl hL T hT X
  refine ⟨t, ?_, b⟩
  obtain ⟨kc, cf, hk, hcf, hcp⟩ := Cond.constantFloat_spec C.ownC (C.hts _ q)
  obtain ⟨k', hk', he⟩ := X.warmed.alike.2.2 _ _ hk
  jvm_step X.here [C.1, (show decode K.c.code (F0 K.m pc ls st).pc = .ok (.ldc_w idx, 3) by rw [C.2.1]; exact hd), ldc_w.wp_float (s := T) (f := F0 K.m pc ls st) X.here.top hk' (by rw [he]; exact hcf) hcp]
  exact a
end LNG
