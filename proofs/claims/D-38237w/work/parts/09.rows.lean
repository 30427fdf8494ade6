/-! ===== rows of the judgement Wk (printed by mkrows.py) ===== -/
set_option maxRecDepth 100000
def b2i : Bool → Int
  | true => 1
  | false => 0
theorem oi_ne0 {b : Int} (h : 0 < b ∧ b < 2147483648) : ¬ Int32.ofInt b = 0 := by
  have e0 : (0 : Int32) = Int32.ofInt 0 := rfl
  rw [e0, oi_eq ⟨by omega, by omega, by omega, by omega⟩]
  omega
theorem oi_nI {a : Int} (h : 0 ≤ a) : Int32.ofInt a = nI a.toNat := by
  show Int32.ofInt a = Int32.ofNat a.toNat
  rw [← Int32.ofInt_eq_ofNat, Int.toNat_of_nonneg h]
theorem nI_oi (a : Nat) : nI a = Int32.ofInt (a : Int) := by
  show Int32.ofNat a = Int32.ofInt (a : Int)
  rw [Int32.ofInt_eq_ofNat]
theorem oi_div {a b : Int} (h : 0 ≤ a ∧ a < 2147483648 ∧ 0 < b ∧ b < 2147483648) : Int32.ofInt a / Int32.ofInt b = Int32.ofInt (a / b) := by
  rw [oi_nI h.1, oi_nI (by omega : 0 ≤ b), pk_div (by omega) (by omega) (by omega), nI_oi]
  congr 1
  rw [Int.natCast_ediv, Int.toNat_of_nonneg h.1, Int.toNat_of_nonneg (by omega)]
theorem oi_rem {a b : Int} (h : 0 ≤ a ∧ a < 2147483648 ∧ 0 < b ∧ b < 2147483648) : Int32.ofInt a - Int32.ofInt a / Int32.ofInt b * Int32.ofInt b = Int32.ofInt (a % b) := by
  rw [oi_nI h.1, oi_nI (by omega : 0 ≤ b), pk_rem (by omega) (by omega) (by omega), nI_oi]
  congr 1
  rw [Int.natCast_emod, Int.toNat_of_nonneg h.1, Int.toNat_of_nonneg (by omega)]
theorem oi_shn (s : Nat) (h : s < 32) : ((Int32.ofInt (s : Int) &&& 31).toBitVec.smod 32).toNat = s := by
  have : ∀ s : Fin 32, ((Int32.ofInt ((s : Nat) : Int) &&& 31).toBitVec.smod 32).toNat = s := by decide +kernel
  exact this ⟨s, h⟩
theorem oi_shl {a b : Int} (h : 0 ≤ b ∧ b < 32) : Int32.ofInt a <<< (Int32.ofInt b &&& 31) = Int32.ofInt (a * 2 ^ b.toNat) := by
  obtain ⟨s, rfl⟩ : ∃ s : Nat, b = s := ⟨b.toNat, by omega⟩
  have hs := oi_shn s (by omega)
  have h1 := pk_shl (Int32.ofInt a) (Int32.ofInt (s : Int) &&& 31) s hs
  apply Int32.toBitVec_inj.mp
  apply BitVec.eq_of_toNat_eq
  rw [h1]
  have e1 : ∀ z : Int, (Int32.ofInt z).toBitVec.toNat = (z % 4294967296).toNat := by
    intro z
    show (BitVec.ofInt 32 z).toNat = _
    rw [BitVec.toNat_ofInt]
    rfl
  rw [e1, e1, Int.toNat_natCast]
  have e2 : ((a % 4294967296).toNat : Int) = a % 4294967296 := Int.toNat_of_nonneg (Int.emod_nonneg _ (by decide))
  apply Int.ofNat.inj
  show (((a % 4294967296).toNat * 2 ^ s % 2 ^ 32 : Nat) : Int) = (((a * 2 ^ s) % 4294967296).toNat : Int)
  rw [Int.toNat_of_nonneg (Int.emod_nonneg _ (by decide)), Int.natCast_emod, Int.natCast_mul, e2, Int.natCast_pow]
  show a % 4294967296 * 2 ^ s % 4294967296 = a * 2 ^ s % 4294967296
  rw [Int.mul_emod, Int.emod_emod_of_dvd _ (Int.dvd_refl _), ← Int.mul_emod]
theorem oi_shr {a b : Int} (h : -2147483648 ≤ a ∧ a < 2147483648 ∧ 0 ≤ b ∧ b < 32) : Int32.ofInt a >>> (Int32.ofInt b &&& 31) = Int32.ofInt (a / 2 ^ b.toNat) := by
  obtain ⟨s, rfl⟩ : ∃ s : Nat, b = s := ⟨b.toNat, by omega⟩
  have hs := oi_shn s (by omega)
  have h1 := pk_shr (Int32.ofInt a) (Int32.ofInt (s : Int) &&& 31) s hs
  rw [oi_toInt h.1 h.2.1] at h1
  rw [← oi_self (Int32.ofInt a >>> (Int32.ofInt (s : Int) &&& 31)), h1, Int.shiftRight_eq_div_pow]
  congr 1
theorem oi_nat {a : Int} (h1 : 0 ≤ a) (h2 : a < 2147483648) : (Int32.ofInt a).toBitVec.toNat = a.toNat := by
  rw [oi_nI h1]
  exact pk_tn (by omega)
theorem oi_bv {x : Int32} {z : Nat} (h : x.toBitVec.toNat = z) : x = Int32.ofInt (z : Int) := by
  rw [← nI_oi]
  apply Int32.toBitVec_inj.mp
  apply BitVec.eq_of_toNat_eq
  rw [h, pk_tn]
  rw [← h]
  exact x.toBitVec.isLt
theorem oi_and {a b : Int} (h : 0 ≤ a ∧ a < 2147483648 ∧ 0 ≤ b ∧ b < 2147483648) : Int32.ofInt a &&& Int32.ofInt b = Int32.ofInt ((a.toNat &&& b.toNat : Nat) : Int) := by
  apply oi_bv
  rw [Int32.toBitVec_and, BitVec.toNat_and, oi_nat h.1 h.2.1, oi_nat h.2.2.1 h.2.2.2]
theorem oi_or {a b : Int} (h : 0 ≤ a ∧ a < 2147483648 ∧ 0 ≤ b ∧ b < 2147483648) : Int32.ofInt a ||| Int32.ofInt b = Int32.ofInt ((a.toNat ||| b.toNat : Nat) : Int) := by
  apply oi_bv
  rw [Int32.toBitVec_or, BitVec.toNat_or, oi_nat h.1 h.2.1, oi_nat h.2.2.1 h.2.2.2]
section ROWS
variable {w : Wd} {K : KT} {own nm : String} {cc : ByteArray} {nL : Nat} {ret : Option FieldType} {fr lo mc ms : Nat} {h : Hp} {n k pc : Nat} {L : List (Option Value)} {st : List Value}
theorem k_iconst {z : Int} (C : Cx w K own cc nL ret nm fr lo mc ms) (hd : decode cc pc = .ok (.iconst z, 1)) (kk : Wk w K h n k (pc + 1) L (jI z :: st)) : Wk w K h n k pc L (st) := by
  intro H locs ls R hl hL
  exact lv_iconst C.1 C.2.1 hd rfl (kk H locs ls R hl hL)

theorem k_bipush {z : Int} (C : Cx w K own cc nL ret nm fr lo mc ms) (hd : decode cc pc = .ok (.bipush z, 2)) (hv : (Int8.ofInt z).toInt32 = Int32.ofInt z) (kk : Wk w K h n k (pc + 2) L (jI z :: st)) : Wk w K h n k pc L (st) := by
  intro H locs ls R hl hL
  exact lv_bipush C.1 C.2.1 hd hv (kk H locs ls R hl hL)

theorem k_sipush {z : Int} (C : Cx w K own cc nL ret nm fr lo mc ms) (hd : decode cc pc = .ok (.sipush z, 3)) (hv : (Int16.ofInt z).toInt32 = Int32.ofInt z) (kk : Wk w K h n k (pc + 3) L (jI z :: st)) : Wk w K h n k pc L (st) := by
  intro H locs ls R hl hL
  exact lv_sipush C.1 C.2.1 hd hv (kk H locs ls R hl hL)

theorem k_null  (C : Cx w K own cc nL ret nm fr lo mc ms) (hd : decode cc pc = .ok (.aconst_null, 1)) (kk : Wk w K h n k (pc + 1) L (.null :: st)) : Wk w K h n k pc L (st) := by
  intro H locs ls R hl hL
  exact lv_null C.1 C.2.1 hd  (kk H locs ls R hl hL)

theorem k_iload_n {x : Int} {j : Fin 4} (C : Cx w K own cc nL ret nm fr lo mc ms) (hd : decode cc pc = .ok (.iload_n j, 1)) (hi : L[(j : Nat)]? = some (some (jI x))) (kk : Wk w K h n k (pc + 1) L (jI x :: st)) : Wk w K h n k pc L (st) := by
  intro H locs ls R hl hL
  exact lv_iload_n C.1 C.2.1 hd rfl (hL.at hi) (kk H locs ls R hl hL)

theorem k_iload {x : Int} {i : Nat} (C : Cx w K own cc nL ret nm fr lo mc ms) (hd : decode cc pc = .ok (.iload i, 2)) (hi : L[i]? = some (some (jI x))) (kk : Wk w K h n k (pc + 2) L (jI x :: st)) : Wk w K h n k pc L (st) := by
  intro H locs ls R hl hL
  exact lv_iload C.1 C.2.1 hd (hL.at hi) (kk H locs ls R hl hL)

theorem k_lload_n {x : Int64} {j : Fin 4} (C : Cx w K own cc nL ret nm fr lo mc ms) (hd : decode cc pc = .ok (.lload_n j, 1)) (hi : L[(j : Nat)]? = some (some (.long x))) (kk : Wk w K h n k (pc + 1) L (.long x :: st)) : Wk w K h n k pc L (st) := by
  intro H locs ls R hl hL
  exact lv_lload_n C.1 C.2.1 hd rfl (hL.at hi) (kk H locs ls R hl hL)

theorem k_lload {x : Int64} {i : Nat} (C : Cx w K own cc nL ret nm fr lo mc ms) (hd : decode cc pc = .ok (.lload i, 2)) (hi : L[i]? = some (some (.long x))) (kk : Wk w K h n k (pc + 2) L (.long x :: st)) : Wk w K h n k pc L (st) := by
  intro H locs ls R hl hL
  exact lv_lload C.1 C.2.1 hd (hL.at hi) (kk H locs ls R hl hL)

theorem k_dload_n {x : UInt64} {j : Fin 4} (C : Cx w K own cc nL ret nm fr lo mc ms) (hd : decode cc pc = .ok (.dload_n j, 1)) (hi : L[(j : Nat)]? = some (some (.double x))) (kk : Wk w K h n k (pc + 1) L (.double x :: st)) : Wk w K h n k pc L (st) := by
  intro H locs ls R hl hL
  exact lv_dload_n C.1 C.2.1 hd rfl (hL.at hi) (kk H locs ls R hl hL)

theorem k_dload {x : UInt64} {i : Nat} (C : Cx w K own cc nL ret nm fr lo mc ms) (hd : decode cc pc = .ok (.dload i, 2)) (hi : L[i]? = some (some (.double x))) (kk : Wk w K h n k (pc + 2) L (.double x :: st)) : Wk w K h n k pc L (st) := by
  intro H locs ls R hl hL
  exact lv_dload C.1 C.2.1 hd (hL.at hi) (kk H locs ls R hl hL)

theorem k_fload_n {x : UInt32} {j : Fin 4} (C : Cx w K own cc nL ret nm fr lo mc ms) (hd : decode cc pc = .ok (.fload_n j, 1)) (hi : L[(j : Nat)]? = some (some (.float x))) (kk : Wk w K h n k (pc + 1) L (.float x :: st)) : Wk w K h n k pc L (st) := by
  intro H locs ls R hl hL
  exact lv_fload_n C.1 C.2.1 hd rfl (hL.at hi) (kk H locs ls R hl hL)

theorem k_fload {x : UInt32} {i : Nat} (C : Cx w K own cc nL ret nm fr lo mc ms) (hd : decode cc pc = .ok (.fload i, 2)) (hi : L[i]? = some (some (.float x))) (kk : Wk w K h n k (pc + 2) L (.float x :: st)) : Wk w K h n k pc L (st) := by
  intro H locs ls R hl hL
  exact lv_fload C.1 C.2.1 hd (hL.at hi) (kk H locs ls R hl hL)

theorem k_aload_n {x : Nat} {j : Fin 4} (C : Cx w K own cc nL ret nm fr lo mc ms) (hd : decode cc pc = .ok (.aload_n j, 1)) (hi : L[(j : Nat)]? = some (some (.ref x))) (kk : Wk w K h n k (pc + 1) L (.ref x :: st)) : Wk w K h n k pc L (st) := by
  intro H locs ls R hl hL
  exact lv_aload_n C.1 C.2.1 hd rfl (hL.at hi) (kk H locs ls R hl hL)

theorem k_aload {x : Nat} {i : Nat} (C : Cx w K own cc nL ret nm fr lo mc ms) (hd : decode cc pc = .ok (.aload i, 2)) (hi : L[i]? = some (some (.ref x))) (kk : Wk w K h n k (pc + 2) L (.ref x :: st)) : Wk w K h n k pc L (st) := by
  intro H locs ls R hl hL
  exact lv_aload C.1 C.2.1 hd (hL.at hi) (kk H locs ls R hl hL)

theorem k_aload_nN {j : Fin 4} (C : Cx w K own cc nL ret nm fr lo mc ms) (hd : decode cc pc = .ok (.aload_n j, 1)) (hi : L[(j : Nat)]? = some (some .null)) (kk : Wk w K h n k (pc + 1) L (.null :: st)) : Wk w K h n k pc L (st) := by
  intro H locs ls R hl hL
  exact lv_aload_nN C.1 C.2.1 hd rfl (hL.at hi) (kk H locs ls R hl hL)

theorem k_aloadN {i : Nat} (C : Cx w K own cc nL ret nm fr lo mc ms) (hd : decode cc pc = .ok (.aload i, 2)) (hi : L[i]? = some (some .null)) (kk : Wk w K h n k (pc + 2) L (.null :: st)) : Wk w K h n k pc L (st) := by
  intro H locs ls R hl hL
  exact lv_aloadN C.1 C.2.1 hd (hL.at hi) (kk H locs ls R hl hL)

theorem k_istore_n {x : Int} {j : Fin 4} (C : Cx w K own cc nL ret nm fr lo mc ms) (hd : decode cc pc = .ok (.istore_n j, 1)) (hn : (j : Nat) < L.length) (ho : lOne L (j : Nat) = true) (kk : Wk w K h n k (pc + 1) (L.set (j : Nat) (some (jI x))) st) : Wk w K h n k pc L (jI x :: st) := by
  intro H locs ls R hl hL
  obtain ⟨lv, h1, h2⟩ := hL
  exact lv_istore_n C.1 C.2.1 hd rfl h1 hn rfl (fun ls' hs => kk H locs ls' R hl ⟨_, by rw [List.length_set]; exact hs, lHas.set1 h2 ho⟩)

theorem k_istore {x : Int} {i : Nat} (C : Cx w K own cc nL ret nm fr lo mc ms) (hd : decode cc pc = .ok (.istore i, 2)) (hn : i < L.length) (ho : lOne L i = true) (kk : Wk w K h n k (pc + 2) (L.set i (some (jI x))) st) : Wk w K h n k pc L (jI x :: st) := by
  intro H locs ls R hl hL
  obtain ⟨lv, h1, h2⟩ := hL
  exact lv_istore C.1 C.2.1 hd h1 hn rfl (fun ls' hs => kk H locs ls' R hl ⟨_, by rw [List.length_set]; exact hs, lHas.set1 h2 ho⟩)

theorem k_lstore_n {x : Int64} {j : Fin 4} (C : Cx w K own cc nL ret nm fr lo mc ms) (hd : decode cc pc = .ok (.lstore_n j, 1)) (hn : (j : Nat) + 1 < L.length) (ho : lOne L (j : Nat) = true) (kk : Wk w K h n k (pc + 1) ((L.set (j : Nat) (some (.long x))).set ((j : Nat) + 1) none) st) : Wk w K h n k pc L (.long x :: st) := by
  intro H locs ls R hl hL
  obtain ⟨lv, h1, h2⟩ := hL
  exact lv_lstore_n C.1 C.2.1 hd rfl h1 hn rfl (fun ls' hs => kk H locs ls' R hl ⟨_, by rw [List.length_set, List.length_set]; exact hs, lHas.set2 h2 ho⟩)

theorem k_lstore {x : Int64} {i : Nat} (C : Cx w K own cc nL ret nm fr lo mc ms) (hd : decode cc pc = .ok (.lstore i, 2)) (hn : i + 1 < L.length) (ho : lOne L i = true) (kk : Wk w K h n k (pc + 2) ((L.set i (some (.long x))).set (i + 1) none) st) : Wk w K h n k pc L (.long x :: st) := by
  intro H locs ls R hl hL
  obtain ⟨lv, h1, h2⟩ := hL
  exact lv_lstore C.1 C.2.1 hd h1 hn rfl (fun ls' hs => kk H locs ls' R hl ⟨_, by rw [List.length_set, List.length_set]; exact hs, lHas.set2 h2 ho⟩)

theorem k_dstore_n {x : UInt64} {j : Fin 4} (C : Cx w K own cc nL ret nm fr lo mc ms) (hd : decode cc pc = .ok (.dstore_n j, 1)) (hn : (j : Nat) + 1 < L.length) (ho : lOne L (j : Nat) = true) (kk : Wk w K h n k (pc + 1) ((L.set (j : Nat) (some (.double x))).set ((j : Nat) + 1) none) st) : Wk w K h n k pc L (.double x :: st) := by
  intro H locs ls R hl hL
  obtain ⟨lv, h1, h2⟩ := hL
  exact lv_dstore_n C.1 C.2.1 hd rfl h1 hn rfl (fun ls' hs => kk H locs ls' R hl ⟨_, by rw [List.length_set, List.length_set]; exact hs, lHas.set2 h2 ho⟩)

theorem k_dstore {x : UInt64} {i : Nat} (C : Cx w K own cc nL ret nm fr lo mc ms) (hd : decode cc pc = .ok (.dstore i, 2)) (hn : i + 1 < L.length) (ho : lOne L i = true) (kk : Wk w K h n k (pc + 2) ((L.set i (some (.double x))).set (i + 1) none) st) : Wk w K h n k pc L (.double x :: st) := by
  intro H locs ls R hl hL
  obtain ⟨lv, h1, h2⟩ := hL
  exact lv_dstore C.1 C.2.1 hd h1 hn rfl (fun ls' hs => kk H locs ls' R hl ⟨_, by rw [List.length_set, List.length_set]; exact hs, lHas.set2 h2 ho⟩)

theorem k_fstore_n {x : UInt32} {j : Fin 4} (C : Cx w K own cc nL ret nm fr lo mc ms) (hd : decode cc pc = .ok (.fstore_n j, 1)) (hn : (j : Nat) < L.length) (ho : lOne L (j : Nat) = true) (kk : Wk w K h n k (pc + 1) (L.set (j : Nat) (some (.float x))) st) : Wk w K h n k pc L (.float x :: st) := by
  intro H locs ls R hl hL
  obtain ⟨lv, h1, h2⟩ := hL
  exact lv_fstore_n C.1 C.2.1 hd rfl h1 hn rfl (fun ls' hs => kk H locs ls' R hl ⟨_, by rw [List.length_set]; exact hs, lHas.set1 h2 ho⟩)

theorem k_fstore {x : UInt32} {i : Nat} (C : Cx w K own cc nL ret nm fr lo mc ms) (hd : decode cc pc = .ok (.fstore i, 2)) (hn : i < L.length) (ho : lOne L i = true) (kk : Wk w K h n k (pc + 2) (L.set i (some (.float x))) st) : Wk w K h n k pc L (.float x :: st) := by
  intro H locs ls R hl hL
  obtain ⟨lv, h1, h2⟩ := hL
  exact lv_fstore C.1 C.2.1 hd h1 hn rfl (fun ls' hs => kk H locs ls' R hl ⟨_, by rw [List.length_set]; exact hs, lHas.set1 h2 ho⟩)

theorem k_astore_n {x : Nat} {j : Fin 4} (C : Cx w K own cc nL ret nm fr lo mc ms) (hd : decode cc pc = .ok (.astore_n j, 1)) (hn : (j : Nat) < L.length) (ho : lOne L (j : Nat) = true) (kk : Wk w K h n k (pc + 1) (L.set (j : Nat) (some (.ref x))) st) : Wk w K h n k pc L (.ref x :: st) := by
  intro H locs ls R hl hL
  obtain ⟨lv, h1, h2⟩ := hL
  exact lv_astore_n C.1 C.2.1 hd rfl h1 hn rfl (fun ls' hs => kk H locs ls' R hl ⟨_, by rw [List.length_set]; exact hs, lHas.set1 h2 ho⟩)

theorem k_astore {x : Nat} {i : Nat} (C : Cx w K own cc nL ret nm fr lo mc ms) (hd : decode cc pc = .ok (.astore i, 2)) (hn : i < L.length) (ho : lOne L i = true) (kk : Wk w K h n k (pc + 2) (L.set i (some (.ref x))) st) : Wk w K h n k pc L (.ref x :: st) := by
  intro H locs ls R hl hL
  obtain ⟨lv, h1, h2⟩ := hL
  exact lv_astore C.1 C.2.1 hd h1 hn rfl (fun ls' hs => kk H locs ls' R hl ⟨_, by rw [List.length_set]; exact hs, lHas.set1 h2 ho⟩)

theorem k_astore_nN {j : Fin 4} (C : Cx w K own cc nL ret nm fr lo mc ms) (hd : decode cc pc = .ok (.astore_n j, 1)) (hn : (j : Nat) < L.length) (ho : lOne L (j : Nat) = true) (kk : Wk w K h n k (pc + 1) (L.set (j : Nat) (some (.null))) st) : Wk w K h n k pc L (.null :: st) := by
  intro H locs ls R hl hL
  obtain ⟨lv, h1, h2⟩ := hL
  exact lv_astore_nN C.1 C.2.1 hd rfl h1 hn rfl (fun ls' hs => kk H locs ls' R hl ⟨_, by rw [List.length_set]; exact hs, lHas.set1 h2 ho⟩)

theorem k_astoreN {i : Nat} (C : Cx w K own cc nL ret nm fr lo mc ms) (hd : decode cc pc = .ok (.astore i, 2)) (hn : i < L.length) (ho : lOne L i = true) (kk : Wk w K h n k (pc + 2) (L.set i (some (.null))) st) : Wk w K h n k pc L (.null :: st) := by
  intro H locs ls R hl hL
  obtain ⟨lv, h1, h2⟩ := hL
  exact lv_astoreN C.1 C.2.1 hd h1 hn rfl (fun ls' hs => kk H locs ls' R hl ⟨_, by rw [List.length_set]; exact hs, lHas.set1 h2 ho⟩)

theorem k_iinc {i : Nat} {x d : Int} (C : Cx w K own cc nL ret nm fr lo mc ms) (hd : decode cc pc = .ok (.iinc i d, 3)) (hi : L[i]? = some (some (jI x))) (ho : lOne L i = true) (kk : Wk w K h n k (pc + 3) (L.set i (some (jI (x + d)))) st) : Wk w K h n k pc L st := by
  intro H locs ls R hl hL
  obtain ⟨lv, h1, h2⟩ := hL
  obtain ⟨q, hq⟩ := List.getElem?_of_mem (h2 i _ hi)
  have hn : i < L.length := (List.getElem?_eq_some_iff.mp hi).1
  refine lv_iinc (v := Int32.ofInt (x + d)) C.1 C.2.1 hd h1 hq (oi_add x d) hn rfl (fun ls' hs => kk H locs ls' R hl ⟨_, by rw [List.length_set]; exact hs, lHas.set1 (v := jI (x + d)) h2 ho⟩)

theorem k_iadd {a b : Int} (C : Cx w K own cc nL ret nm fr lo mc ms) (hd : decode cc pc = .ok (.iadd, 1)) (kk : Wk w K h n k (pc + 1) L (jI (a + b) :: st)) : Wk w K h n k pc L (jI b :: jI a :: st) := by
  intro H locs ls R hl hL
  refine lv_iadd C.1 C.2.1 hd  ?_
  rw [oi_add]
  exact kk H locs ls R hl hL

theorem k_isub {a b : Int} (C : Cx w K own cc nL ret nm fr lo mc ms) (hd : decode cc pc = .ok (.isub, 1)) (kk : Wk w K h n k (pc + 1) L (jI (a - b) :: st)) : Wk w K h n k pc L (jI b :: jI a :: st) := by
  intro H locs ls R hl hL
  refine lv_isub C.1 C.2.1 hd  ?_
  rw [oi_sub]
  exact kk H locs ls R hl hL

theorem k_imul {a b : Int} (C : Cx w K own cc nL ret nm fr lo mc ms) (hd : decode cc pc = .ok (.imul, 1)) (kk : Wk w K h n k (pc + 1) L (jI (a * b) :: st)) : Wk w K h n k pc L (jI b :: jI a :: st) := by
  intro H locs ls R hl hL
  refine lv_imul C.1 C.2.1 hd  ?_
  rw [oi_mul]
  exact kk H locs ls R hl hL

theorem k_ineg {a : Int} (C : Cx w K own cc nL ret nm fr lo mc ms) (hd : decode cc pc = .ok (.ineg, 1)) (kk : Wk w K h n k (pc + 1) L (jI (-a) :: st)) : Wk w K h n k pc L (jI a :: st) := by
  intro H locs ls R hl hL
  refine lv_ineg C.1 C.2.1 hd ?_
  rw [oi_neg]
  exact kk H locs ls R hl hL

theorem k_idiv {a b : Int} (C : Cx w K own cc nL ret nm fr lo mc ms) (hd : decode cc pc = .ok (.idiv, 1)) (hr : 0 ≤ a ∧ a < 2147483648 ∧ 0 < b ∧ b < 2147483648) (kk : Wk w K h n k (pc + 1) L (jI (a / b) :: st)) : Wk w K h n k pc L (jI b :: jI a :: st) := by
  intro H locs ls R hl hL
  refine lv_idiv C.1 C.2.1 hd (oi_ne0 hr.2.2) ?_
  rw [oi_div hr]
  exact kk H locs ls R hl hL

theorem k_irem {a b : Int} (C : Cx w K own cc nL ret nm fr lo mc ms) (hd : decode cc pc = .ok (.irem, 1)) (hr : 0 ≤ a ∧ a < 2147483648 ∧ 0 < b ∧ b < 2147483648) (kk : Wk w K h n k (pc + 1) L (jI (a % b) :: st)) : Wk w K h n k pc L (jI b :: jI a :: st) := by
  intro H locs ls R hl hL
  refine lv_irem C.1 C.2.1 hd (oi_ne0 hr.2.2) ?_
  rw [oi_rem hr]
  exact kk H locs ls R hl hL

theorem k_ishl {a b : Int} (C : Cx w K own cc nL ret nm fr lo mc ms) (hd : decode cc pc = .ok (.ishl, 1)) (hr : 0 ≤ b ∧ b < 32) (kk : Wk w K h n k (pc + 1) L (jI (a * 2 ^ b.toNat) :: st)) : Wk w K h n k pc L (jI b :: jI a :: st) := by
  intro H locs ls R hl hL
  refine lv_ishl C.1 C.2.1 hd  ?_
  rw [oi_shl hr]
  exact kk H locs ls R hl hL

theorem k_ishr {a b : Int} (C : Cx w K own cc nL ret nm fr lo mc ms) (hd : decode cc pc = .ok (.ishr, 1)) (hr : -2147483648 ≤ a ∧ a < 2147483648 ∧ 0 ≤ b ∧ b < 32) (kk : Wk w K h n k (pc + 1) L (jI (a / 2 ^ b.toNat) :: st)) : Wk w K h n k pc L (jI b :: jI a :: st) := by
  intro H locs ls R hl hL
  refine lv_ishr C.1 C.2.1 hd  ?_
  rw [oi_shr hr]
  exact kk H locs ls R hl hL

theorem k_iand {a b : Int} (C : Cx w K own cc nL ret nm fr lo mc ms) (hd : decode cc pc = .ok (.iand, 1)) (hr : 0 ≤ a ∧ a < 2147483648 ∧ 0 ≤ b ∧ b < 2147483648) (kk : Wk w K h n k (pc + 1) L (jI (((a.toNat &&& b.toNat : Nat) : Int)) :: st)) : Wk w K h n k pc L (jI b :: jI a :: st) := by
  intro H locs ls R hl hL
  refine lv_iand C.1 C.2.1 hd  ?_
  rw [oi_and hr]
  exact kk H locs ls R hl hL

theorem k_ior {a b : Int} (C : Cx w K own cc nL ret nm fr lo mc ms) (hd : decode cc pc = .ok (.ior, 1)) (hr : 0 ≤ a ∧ a < 2147483648 ∧ 0 ≤ b ∧ b < 2147483648) (kk : Wk w K h n k (pc + 1) L (jI (((a.toNat ||| b.toNat : Nat) : Int)) :: st)) : Wk w K h n k pc L (jI b :: jI a :: st) := by
  intro H locs ls R hl hL
  refine lv_ior C.1 C.2.1 hd  ?_
  rw [oi_or hr]
  exact kk H locs ls R hl hL

theorem k_dup {v : Value} (C : Cx w K own cc nL ret nm fr lo mc ms) (hd : decode cc pc = .ok (.dup, 1)) (hv : v.category = 1) (kk : Wk w K h n k (pc + 1) L (v :: v :: st)) : Wk w K h n k pc L (v :: st) := by
  intro H locs ls R hl hL
  exact lv_dup C.1 C.2.1 hd hv (kk H locs ls R hl hL)

theorem k_pop {v : Value} (C : Cx w K own cc nL ret nm fr lo mc ms) (hd : decode cc pc = .ok (.pop, 1)) (hv : v.category = 1) (kk : Wk w K h n k (pc + 1) L (st)) : Wk w K h n k pc L (v :: st) := by
  intro H locs ls R hl hL
  exact lv_pop C.1 C.2.1 hd hv (kk H locs ls R hl hL)

theorem k_pop2 {v : Value} (C : Cx w K own cc nL ret nm fr lo mc ms) (hd : decode cc pc = .ok (.pop2, 1)) (hv : v.category = 2) (kk : Wk w K h n k (pc + 1) L (st)) : Wk w K h n k pc L (v :: st) := by
  intro H locs ls R hl hL
  exact lv_pop2_2 C.1 C.2.1 hd hv (kk H locs ls R hl hL)

theorem k_dup_x1 {u v : Value} (C : Cx w K own cc nL ret nm fr lo mc ms) (hd : decode cc pc = .ok (.dup_x1, 1)) (hv : v.category = 1) (hu : u.category = 1) (kk : Wk w K h n k (pc + 1) L (v :: u :: v :: st)) : Wk w K h n k pc L (v :: u :: st) := by
  intro H locs ls R hl hL
  exact lv_dup_x1 C.1 C.2.1 hd hv hu (kk H locs ls R hl hL)

theorem k_dup2_11 {u v : Value} (C : Cx w K own cc nL ret nm fr lo mc ms) (hd : decode cc pc = .ok (.dup2, 1)) (hv : v.category = 1) (hu : u.category = 1) (kk : Wk w K h n k (pc + 1) L (v :: u :: v :: u :: st)) : Wk w K h n k pc L (v :: u :: st) := by
  intro H locs ls R hl hL
  exact lv_dup2_11 C.1 C.2.1 hd hv hu (kk H locs ls R hl hL)

theorem k_dup2_x1 {u v : Value} (C : Cx w K own cc nL ret nm fr lo mc ms) (hd : decode cc pc = .ok (.dup2_x1, 1)) (hv : v.category = 2) (hu : u.category = 1) (kk : Wk w K h n k (pc + 1) L (v :: u :: v :: st)) : Wk w K h n k pc L (v :: u :: st) := by
  intro H locs ls R hl hL
  exact lv_dup2_x1_2 C.1 C.2.1 hd hv hu (kk H locs ls R hl hL)

theorem k_if_eq {x : Int} {off : Int} {tgt : Nat} (C : Cx w K own cc nL ret nm fr lo mc ms) (hd : decode cc pc = .ok (.ifCond .eq off, 3)) (ht : (pc : Int) + off = (tgt : Int)) (hr : -2147483648 ≤ x ∧ x < 2147483648) (kt : x = 0 → Wk w K h n k tgt L st) (kf : ¬ x = 0 → Wk w K h n k (pc + 3) L st) : Wk w K h n k pc L (jI x :: st) := by
  intro H locs ls R hl hL
  have hq : -2147483648 ≤ x ∧ x < 2147483648 ∧ -2147483648 ≤ (0 : Int) ∧ (0 : Int) < 2147483648 := ⟨hr.1, hr.2, by omega, by omega⟩
  have hq' : -2147483648 ≤ (0 : Int) ∧ (0 : Int) < 2147483648 ∧ -2147483648 ≤ x ∧ x < 2147483648 := ⟨by omega, by omega, hr.1, hr.2⟩
  have e0 : (0 : Int32) = Int32.ofInt 0 := rfl
  refine lv_if_eq C.1 C.2.1 hd ht (fun q => ?_) (fun q => ?_)
  all_goals (first | rw [e0, oi_eq hq] at q | rw [e0, oi_lt hq] at q | rw [e0, oi_le hq'] at q | rw [e0, oi_lt hq'] at q | rw [e0, oi_le hq] at q)
  · exact kt (by omega) H locs ls R hl hL
  · exact kf (by omega) H locs ls R hl hL

theorem k_if_ne {x : Int} {off : Int} {tgt : Nat} (C : Cx w K own cc nL ret nm fr lo mc ms) (hd : decode cc pc = .ok (.ifCond .ne off, 3)) (ht : (pc : Int) + off = (tgt : Int)) (hr : -2147483648 ≤ x ∧ x < 2147483648) (kt : ¬ x = 0 → Wk w K h n k tgt L st) (kf : x = 0 → Wk w K h n k (pc + 3) L st) : Wk w K h n k pc L (jI x :: st) := by
  intro H locs ls R hl hL
  have hq : -2147483648 ≤ x ∧ x < 2147483648 ∧ -2147483648 ≤ (0 : Int) ∧ (0 : Int) < 2147483648 := ⟨hr.1, hr.2, by omega, by omega⟩
  have hq' : -2147483648 ≤ (0 : Int) ∧ (0 : Int) < 2147483648 ∧ -2147483648 ≤ x ∧ x < 2147483648 := ⟨by omega, by omega, hr.1, hr.2⟩
  have e0 : (0 : Int32) = Int32.ofInt 0 := rfl
  refine lv_if_ne C.1 C.2.1 hd ht (fun q => ?_) (fun q => ?_)
  all_goals (first | rw [e0, oi_eq hq] at q | rw [e0, oi_lt hq] at q | rw [e0, oi_le hq'] at q | rw [e0, oi_lt hq'] at q | rw [e0, oi_le hq] at q)
  · exact kt (by omega) H locs ls R hl hL
  · exact kf (by omega) H locs ls R hl hL

theorem k_if_lt {x : Int} {off : Int} {tgt : Nat} (C : Cx w K own cc nL ret nm fr lo mc ms) (hd : decode cc pc = .ok (.ifCond .lt off, 3)) (ht : (pc : Int) + off = (tgt : Int)) (hr : -2147483648 ≤ x ∧ x < 2147483648) (kt : x < 0 → Wk w K h n k tgt L st) (kf : 0 ≤ x → Wk w K h n k (pc + 3) L st) : Wk w K h n k pc L (jI x :: st) := by
  intro H locs ls R hl hL
  have hq : -2147483648 ≤ x ∧ x < 2147483648 ∧ -2147483648 ≤ (0 : Int) ∧ (0 : Int) < 2147483648 := ⟨hr.1, hr.2, by omega, by omega⟩
  have hq' : -2147483648 ≤ (0 : Int) ∧ (0 : Int) < 2147483648 ∧ -2147483648 ≤ x ∧ x < 2147483648 := ⟨by omega, by omega, hr.1, hr.2⟩
  have e0 : (0 : Int32) = Int32.ofInt 0 := rfl
  refine lv_if_lt C.1 C.2.1 hd ht (fun q => ?_) (fun q => ?_)
  all_goals (first | rw [e0, oi_eq hq] at q | rw [e0, oi_lt hq] at q | rw [e0, oi_le hq'] at q | rw [e0, oi_lt hq'] at q | rw [e0, oi_le hq] at q)
  · exact kt (by omega) H locs ls R hl hL
  · exact kf (by omega) H locs ls R hl hL

theorem k_if_ge {x : Int} {off : Int} {tgt : Nat} (C : Cx w K own cc nL ret nm fr lo mc ms) (hd : decode cc pc = .ok (.ifCond .ge off, 3)) (ht : (pc : Int) + off = (tgt : Int)) (hr : -2147483648 ≤ x ∧ x < 2147483648) (kt : 0 ≤ x → Wk w K h n k tgt L st) (kf : x < 0 → Wk w K h n k (pc + 3) L st) : Wk w K h n k pc L (jI x :: st) := by
  intro H locs ls R hl hL
  have hq : -2147483648 ≤ x ∧ x < 2147483648 ∧ -2147483648 ≤ (0 : Int) ∧ (0 : Int) < 2147483648 := ⟨hr.1, hr.2, by omega, by omega⟩
  have hq' : -2147483648 ≤ (0 : Int) ∧ (0 : Int) < 2147483648 ∧ -2147483648 ≤ x ∧ x < 2147483648 := ⟨by omega, by omega, hr.1, hr.2⟩
  have e0 : (0 : Int32) = Int32.ofInt 0 := rfl
  refine lv_if_ge C.1 C.2.1 hd ht (fun q => ?_) (fun q => ?_)
  all_goals (first | rw [e0, oi_eq hq] at q | rw [e0, oi_lt hq] at q | rw [e0, oi_le hq'] at q | rw [e0, oi_lt hq'] at q | rw [e0, oi_le hq] at q)
  · exact kt (by omega) H locs ls R hl hL
  · exact kf (by omega) H locs ls R hl hL

theorem k_if_gt {x : Int} {off : Int} {tgt : Nat} (C : Cx w K own cc nL ret nm fr lo mc ms) (hd : decode cc pc = .ok (.ifCond .gt off, 3)) (ht : (pc : Int) + off = (tgt : Int)) (hr : -2147483648 ≤ x ∧ x < 2147483648) (kt : 0 < x → Wk w K h n k tgt L st) (kf : x ≤ 0 → Wk w K h n k (pc + 3) L st) : Wk w K h n k pc L (jI x :: st) := by
  intro H locs ls R hl hL
  have hq : -2147483648 ≤ x ∧ x < 2147483648 ∧ -2147483648 ≤ (0 : Int) ∧ (0 : Int) < 2147483648 := ⟨hr.1, hr.2, by omega, by omega⟩
  have hq' : -2147483648 ≤ (0 : Int) ∧ (0 : Int) < 2147483648 ∧ -2147483648 ≤ x ∧ x < 2147483648 := ⟨by omega, by omega, hr.1, hr.2⟩
  have e0 : (0 : Int32) = Int32.ofInt 0 := rfl
  refine lv_if_gt C.1 C.2.1 hd ht (fun q => ?_) (fun q => ?_)
  all_goals (first | rw [e0, oi_eq hq] at q | rw [e0, oi_lt hq] at q | rw [e0, oi_le hq'] at q | rw [e0, oi_lt hq'] at q | rw [e0, oi_le hq] at q)
  · exact kt (by omega) H locs ls R hl hL
  · exact kf (by omega) H locs ls R hl hL

theorem k_if_le {x : Int} {off : Int} {tgt : Nat} (C : Cx w K own cc nL ret nm fr lo mc ms) (hd : decode cc pc = .ok (.ifCond .le off, 3)) (ht : (pc : Int) + off = (tgt : Int)) (hr : -2147483648 ≤ x ∧ x < 2147483648) (kt : x ≤ 0 → Wk w K h n k tgt L st) (kf : 0 < x → Wk w K h n k (pc + 3) L st) : Wk w K h n k pc L (jI x :: st) := by
  intro H locs ls R hl hL
  have hq : -2147483648 ≤ x ∧ x < 2147483648 ∧ -2147483648 ≤ (0 : Int) ∧ (0 : Int) < 2147483648 := ⟨hr.1, hr.2, by omega, by omega⟩
  have hq' : -2147483648 ≤ (0 : Int) ∧ (0 : Int) < 2147483648 ∧ -2147483648 ≤ x ∧ x < 2147483648 := ⟨by omega, by omega, hr.1, hr.2⟩
  have e0 : (0 : Int32) = Int32.ofInt 0 := rfl
  refine lv_if_le C.1 C.2.1 hd ht (fun q => ?_) (fun q => ?_)
  all_goals (first | rw [e0, oi_eq hq] at q | rw [e0, oi_lt hq] at q | rw [e0, oi_le hq'] at q | rw [e0, oi_lt hq'] at q | rw [e0, oi_le hq] at q)
  · exact kt (by omega) H locs ls R hl hL
  · exact kf (by omega) H locs ls R hl hL

theorem k_icmp_eq {a b : Int} {off : Int} {tgt : Nat} (C : Cx w K own cc nL ret nm fr lo mc ms) (hd : decode cc pc = .ok (.if_icmp .eq off, 3)) (ht : (pc : Int) + off = (tgt : Int)) (hr : -2147483648 ≤ a ∧ a < 2147483648 ∧ -2147483648 ≤ b ∧ b < 2147483648) (kt : a = b → Wk w K h n k tgt L st) (kf : ¬ a = b → Wk w K h n k (pc + 3) L st) : Wk w K h n k pc L (jI b :: jI a :: st) := by
  intro H locs ls R hl hL
  have hr' : -2147483648 ≤ b ∧ b < 2147483648 ∧ -2147483648 ≤ a ∧ a < 2147483648 := ⟨hr.2.2.1, hr.2.2.2, hr.1, hr.2.1⟩
  refine lv_icmp_eq C.1 C.2.1 hd ht (fun q => ?_) (fun q => ?_)
  all_goals (first | rw [oi_eq hr] at q | rw [oi_lt hr] at q | rw [oi_le hr'] at q | rw [oi_lt hr'] at q | rw [oi_le hr] at q)
  · exact kt (by omega) H locs ls R hl hL
  · exact kf (by omega) H locs ls R hl hL

theorem k_icmp_ne {a b : Int} {off : Int} {tgt : Nat} (C : Cx w K own cc nL ret nm fr lo mc ms) (hd : decode cc pc = .ok (.if_icmp .ne off, 3)) (ht : (pc : Int) + off = (tgt : Int)) (hr : -2147483648 ≤ a ∧ a < 2147483648 ∧ -2147483648 ≤ b ∧ b < 2147483648) (kt : ¬ a = b → Wk w K h n k tgt L st) (kf : a = b → Wk w K h n k (pc + 3) L st) : Wk w K h n k pc L (jI b :: jI a :: st) := by
  intro H locs ls R hl hL
  have hr' : -2147483648 ≤ b ∧ b < 2147483648 ∧ -2147483648 ≤ a ∧ a < 2147483648 := ⟨hr.2.2.1, hr.2.2.2, hr.1, hr.2.1⟩
  refine lv_icmp_ne C.1 C.2.1 hd ht (fun q => ?_) (fun q => ?_)
  all_goals (first | rw [oi_eq hr] at q | rw [oi_lt hr] at q | rw [oi_le hr'] at q | rw [oi_lt hr'] at q | rw [oi_le hr] at q)
  · exact kt (by omega) H locs ls R hl hL
  · exact kf (by omega) H locs ls R hl hL

theorem k_icmp_lt {a b : Int} {off : Int} {tgt : Nat} (C : Cx w K own cc nL ret nm fr lo mc ms) (hd : decode cc pc = .ok (.if_icmp .lt off, 3)) (ht : (pc : Int) + off = (tgt : Int)) (hr : -2147483648 ≤ a ∧ a < 2147483648 ∧ -2147483648 ≤ b ∧ b < 2147483648) (kt : a < b → Wk w K h n k tgt L st) (kf : b ≤ a → Wk w K h n k (pc + 3) L st) : Wk w K h n k pc L (jI b :: jI a :: st) := by
  intro H locs ls R hl hL
  have hr' : -2147483648 ≤ b ∧ b < 2147483648 ∧ -2147483648 ≤ a ∧ a < 2147483648 := ⟨hr.2.2.1, hr.2.2.2, hr.1, hr.2.1⟩
  refine lv_icmp_lt C.1 C.2.1 hd ht (fun q => ?_) (fun q => ?_)
  all_goals (first | rw [oi_eq hr] at q | rw [oi_lt hr] at q | rw [oi_le hr'] at q | rw [oi_lt hr'] at q | rw [oi_le hr] at q)
  · exact kt (by omega) H locs ls R hl hL
  · exact kf (by omega) H locs ls R hl hL

theorem k_icmp_ge {a b : Int} {off : Int} {tgt : Nat} (C : Cx w K own cc nL ret nm fr lo mc ms) (hd : decode cc pc = .ok (.if_icmp .ge off, 3)) (ht : (pc : Int) + off = (tgt : Int)) (hr : -2147483648 ≤ a ∧ a < 2147483648 ∧ -2147483648 ≤ b ∧ b < 2147483648) (kt : b ≤ a → Wk w K h n k tgt L st) (kf : a < b → Wk w K h n k (pc + 3) L st) : Wk w K h n k pc L (jI b :: jI a :: st) := by
  intro H locs ls R hl hL
  have hr' : -2147483648 ≤ b ∧ b < 2147483648 ∧ -2147483648 ≤ a ∧ a < 2147483648 := ⟨hr.2.2.1, hr.2.2.2, hr.1, hr.2.1⟩
  refine lv_icmp_ge C.1 C.2.1 hd ht (fun q => ?_) (fun q => ?_)
  all_goals (first | rw [oi_eq hr] at q | rw [oi_lt hr] at q | rw [oi_le hr'] at q | rw [oi_lt hr'] at q | rw [oi_le hr] at q)
  · exact kt (by omega) H locs ls R hl hL
  · exact kf (by omega) H locs ls R hl hL

theorem k_icmp_gt {a b : Int} {off : Int} {tgt : Nat} (C : Cx w K own cc nL ret nm fr lo mc ms) (hd : decode cc pc = .ok (.if_icmp .gt off, 3)) (ht : (pc : Int) + off = (tgt : Int)) (hr : -2147483648 ≤ a ∧ a < 2147483648 ∧ -2147483648 ≤ b ∧ b < 2147483648) (kt : b < a → Wk w K h n k tgt L st) (kf : a ≤ b → Wk w K h n k (pc + 3) L st) : Wk w K h n k pc L (jI b :: jI a :: st) := by
  intro H locs ls R hl hL
  have hr' : -2147483648 ≤ b ∧ b < 2147483648 ∧ -2147483648 ≤ a ∧ a < 2147483648 := ⟨hr.2.2.1, hr.2.2.2, hr.1, hr.2.1⟩
  refine lv_icmp_gt C.1 C.2.1 hd ht (fun q => ?_) (fun q => ?_)
  all_goals (first | rw [oi_eq hr] at q | rw [oi_lt hr] at q | rw [oi_le hr'] at q | rw [oi_lt hr'] at q | rw [oi_le hr] at q)
  · exact kt (by omega) H locs ls R hl hL
  · exact kf (by omega) H locs ls R hl hL

theorem k_icmp_le {a b : Int} {off : Int} {tgt : Nat} (C : Cx w K own cc nL ret nm fr lo mc ms) (hd : decode cc pc = .ok (.if_icmp .le off, 3)) (ht : (pc : Int) + off = (tgt : Int)) (hr : -2147483648 ≤ a ∧ a < 2147483648 ∧ -2147483648 ≤ b ∧ b < 2147483648) (kt : a ≤ b → Wk w K h n k tgt L st) (kf : b < a → Wk w K h n k (pc + 3) L st) : Wk w K h n k pc L (jI b :: jI a :: st) := by
  intro H locs ls R hl hL
  have hr' : -2147483648 ≤ b ∧ b < 2147483648 ∧ -2147483648 ≤ a ∧ a < 2147483648 := ⟨hr.2.2.1, hr.2.2.2, hr.1, hr.2.1⟩
  refine lv_icmp_le C.1 C.2.1 hd ht (fun q => ?_) (fun q => ?_)
  all_goals (first | rw [oi_eq hr] at q | rw [oi_lt hr] at q | rw [oi_le hr'] at q | rw [oi_lt hr'] at q | rw [oi_le hr] at q)
  · exact kt (by omega) H locs ls R hl hL
  · exact kf (by omega) H locs ls R hl hL

theorem k_ifeq_b {b : Bool} {off : Int} {tgt : Nat} (C : Cx w K own cc nL ret nm fr lo mc ms) (hd : decode cc pc = .ok (.ifCond .eq off, 3)) (ht : (pc : Int) + off = (tgt : Int)) (kt : b = false → Wk w K h n k tgt L st) (kf : b = true → Wk w K h n k (pc + 3) L st) : Wk w K h n k pc L (jI (b2i b) :: st) := by
  refine k_if_eq C hd ht (by cases b <;> decide) (fun q => kt ?_) (fun q => kf ?_)
  · cases b <;> simp_all [b2i]
  · cases b <;> simp_all [b2i]
theorem k_ifne_b {b : Bool} {off : Int} {tgt : Nat} (C : Cx w K own cc nL ret nm fr lo mc ms) (hd : decode cc pc = .ok (.ifCond .ne off, 3)) (ht : (pc : Int) + off = (tgt : Int)) (kt : b = true → Wk w K h n k tgt L st) (kf : b = false → Wk w K h n k (pc + 3) L st) : Wk w K h n k pc L (jI (b2i b) :: st) := by
  refine k_if_ne C hd ht (by cases b <;> decide) (fun q => kt ?_) (fun q => kf ?_)
  · cases b <;> simp_all [b2i]
  · cases b <;> simp_all [b2i]
theorem k_goto {off : Int} {tgt : Nat} (C : Cx w K own cc nL ret nm fr lo mc ms) (hd : decode cc pc = .ok (.goto off, 3)) (ht : (pc : Int) + off = (tgt : Int)) (kk : Wk w K h n k tgt L st) : Wk w K h n k pc L st := by
  intro H locs ls R hl hL
  exact lv_goto C.1 C.2.1 hd ht (kk H locs ls R hl hL)
theorem k_ifnonnull {x : Nat} {off : Int} {tgt : Nat} (C : Cx w K own cc nL ret nm fr lo mc ms) (hd : decode cc pc = .ok (.ifnonnull off, 3)) (ht : (pc : Int) + off = (tgt : Int)) (kk : Wk w K h n k tgt L st) : Wk w K h n k pc L (.ref x :: st) := by
  intro H locs ls R hl hL
  exact lv_ifnonnull C.1 C.2.1 hd ht (kk H locs ls R hl hL)
theorem k_ifnull {x : Nat} {off : Int} (C : Cx w K own cc nL ret nm fr lo mc ms) (hd : decode cc pc = .ok (.ifnull off, 3)) (kk : Wk w K h n k (pc + 3) L st) : Wk w K h n k pc L (.ref x :: st) := by
  intro H locs ls R hl hL
  exact lv_ifnull C.1 C.2.1 hd (kk H locs ls R hl hL)
theorem k_ifnonnullN {off : Int} (C : Cx w K own cc nL ret nm fr lo mc ms) (hd : decode cc pc = .ok (.ifnonnull off, 3)) (kk : Wk w K h n k (pc + 3) L st) : Wk w K h n k pc L (.null :: st) := by
  intro H locs ls R hl hL
  exact lv_ifnonnullN C.1 C.2.1 hd (kk H locs ls R hl hL)
theorem k_ifnullN {off : Int} {tgt : Nat} (C : Cx w K own cc nL ret nm fr lo mc ms) (hd : decode cc pc = .ok (.ifnull off, 3)) (ht : (pc : Int) + off = (tgt : Int)) (kk : Wk w K h n k tgt L st) : Wk w K h n k pc L (.null :: st) := by
  intro H locs ls R hl hL
  exact lv_ifnullN C.1 C.2.1 hd ht (kk H locs ls R hl hL)
theorem k_acmp_eq {x y : Nat} {off : Int} {tgt : Nat} (C : Cx w K own cc nL ret nm fr lo mc ms) (hd : decode cc pc = .ok (.if_acmp .eq off, 3)) (ht : (pc : Int) + off = (tgt : Int)) (kt : x = y → Wk w K h n k tgt L st) (kf : ¬ x = y → Wk w K h n k (pc + 3) L st) : Wk w K h n k pc L (.ref y :: .ref x :: st) := by
  intro H locs ls R hl hL
  exact lv_acmp_eq (rx := some x) (ry := some y) C.1 C.2.1 hd ht (fun q => kt (Option.some.inj q) H locs ls R hl hL) (fun q => kf (fun e => q (congrArg some e)) H locs ls R hl hL)
theorem k_acmp_ne {x y : Nat} {off : Int} {tgt : Nat} (C : Cx w K own cc nL ret nm fr lo mc ms) (hd : decode cc pc = .ok (.if_acmp .ne off, 3)) (ht : (pc : Int) + off = (tgt : Int)) (kt : ¬ x = y → Wk w K h n k tgt L st) (kf : x = y → Wk w K h n k (pc + 3) L st) : Wk w K h n k pc L (.ref y :: .ref x :: st) := by
  intro H locs ls R hl hL
  exact lv_acmp_ne (rx := some x) (ry := some y) C.1 C.2.1 hd ht (fun q => kt (fun e => q (congrArg some e)) H locs ls R hl hL) (fun q => kf (Option.some.inj q) H locs ls R hl hL)
theorem k_tswIn {dflt lo' hi' : Int} {offs : Array Int} {len : Nat} {x off : Int} {tgt : Nat} (C : Cx w K own cc nL ret nm fr lo mc ms) (hd : decode cc pc = .ok (.tableswitch dflt lo' hi' offs, len)) (hr : -2147483648 ≤ x ∧ x < 2147483648) (h1 : lo' ≤ x) (h2 : x ≤ hi') (ho : offs[(x - lo').toNat]? = some off) (ht : (pc : Int) + off = (tgt : Int)) (kk : Wk w K h n k tgt L st) : Wk w K h n k pc L (jI x :: st) := by
  intro H locs ls R hl hL
  have e : (Int32.ofInt x).toInt = x := oi_toInt hr.1 hr.2
  exact lv_tableIn (x := Int32.ofInt x) C.1 C.2.1 hd (by rw [e]; omega) (by rw [e]; omega) (by rw [e]; exact ho) ht (kk H locs ls R hl hL)
theorem k_tswOut {dflt lo' hi' : Int} {offs : Array Int} {len : Nat} {x : Int} {tgt : Nat} (C : Cx w K own cc nL ret nm fr lo mc ms) (hd : decode cc pc = .ok (.tableswitch dflt lo' hi' offs, len)) (hr : -2147483648 ≤ x ∧ x < 2147483648) (h1 : x < lo' ∨ hi' < x) (ht : (pc : Int) + dflt = (tgt : Int)) (kk : Wk w K h n k tgt L st) : Wk w K h n k pc L (jI x :: st) := by
  intro H locs ls R hl hL
  have e : (Int32.ofInt x).toInt = x := oi_toInt hr.1 hr.2
  exact lv_tableOut (x := Int32.ofInt x) C.1 C.2.1 hd (by rw [e]; exact h1) ht (kk H locs ls R hl hL)
end ROWS
