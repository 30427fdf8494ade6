/-! ===== the arms of doubles and longs ===== -/
set_option maxRecDepth 100000
theorem dig_room (c : Nat) : 46 + 1649 * c ≤ Bc c ∧ 291 + 26937 * c ≤ Bs c := by unfold Bc Bs; split <;> split <;> omega
/-- a number's compare with itself -/
def dSelf (x : UInt64) : Int := (Op.cmpValue (FP.dcmp x x) .l).toInt
theorem dSelf_i32 (x : UInt64) : -2147483648 ≤ dSelf x ∧ dSelf x < 2147483648 := by
  unfold dSelf
  have h1 := Int32.le_toInt (Op.cmpValue (FP.dcmp x x) .l)
  have h2 := Int32.toInt_lt (Op.cmpValue (FP.dcmp x x) .l)
  omega
theorem dSelf_of (x : UInt64) : Op.cmpValue (FP.dcmp x x) .l = Int32.ofInt (dSelf x) := (oi_self _).symm
theorem a_meanStop {w : Wd} {K : KT} {ret : Option FieldType} {nm : String} (C : Cx w K RL cL_law 10 ret nm 25 12986 600192 7294250) {h : Hp} {n k b x m o od N j : Nat} {X : XL} {σ : Sg} {L : ML} {th : Int} {s : Int64} {f : Int → Int} (B : isB w h x X σ m L σ th s o od b N f) (I : Inv σ j) (hf : ∀ i, i32 (f i)) (hj : 7 * j + 7 ≤ N ∧ N ≤ 224) (hnk : n ≤ NN j σ.n ∧ k ≤ SS j σ.n) (G : GoOn w K b x m o od N f j) : Wk w K h n k 1571 (Lc b x m o od (7 * (j : Int))) [] := by
  have hr := room_at (j := j) (c := σ.n) (by omega) I.1.1 I.2.1
  have hB := Bc_le σ.n
  have hS := Bs_le σ.n
  have hx := B.1.1
  have hm := B.2.2.1.1
  refine k_aload_n C dL_law_1571 rfl ?_
  refine kx_V C rfl mv_L_156 dL_law_1572 (c_meanStopX B.1 I.1) hx rfl rfl (Nat.le_of_ble_eq_true rfl) ⟨(Nat.le_of_ble_eq_true rfl), (Nat.le_of_ble_eq_true rfl)⟩ (by omega) (fun v h1 hp_ => ?_) (fun _ _ hx => hx.elim)
  obtain ⟨rfl, rfl⟩ := hp_
  refine k_dstore C dL_law_1575 (Nat.le_of_ble_eq_true rfl) rfl ?_
  refine k_aload_n C dL_law_1577 rfl ?_
  refine kx_V C rfl mv_L_160 dL_law_1578 (c_mMeanStop B.2.2.1 I.1) hm rfl rfl (Nat.le_of_ble_eq_true rfl) ⟨(Nat.le_of_ble_eq_true rfl), (Nat.le_of_ble_eq_true rfl)⟩ (by omega) (fun v h2 hp_ => ?_) (fun _ _ hx => hx.elim)
  obtain ⟨rfl, M2, U2⟩ := hp_
  have SM := q_step M2 B.2.2.2.1 U2
  obtain ⟨L2, B2⟩ := B.goM I.1 SM
  have hd := dSelf_i32 (meanC σ)
  have fin : ∀ u, Wk w K h2 (n + 0 + 1) (k + 0 + 4) 1609 [some (.ref b), some (.ref x), some (.ref m), some (.ref o), some (.ref od), some (jI (7 * (j : Int))), some (.double u), none, some (.double u), none] [] := fun u => by
    refine k_goto C dL_law_1609 (tgt := 1806) (by decide) ?_
    exact Wk.sub (by repeat (first | exact trivial | apply Lle.so | apply Lle.no)) (G.same I (stp.refl I.1) B2 rfl hnk (by omega))
  refine k_dstore C dL_law_1581 (Nat.le_of_ble_eq_true rfl) rfl ?_
  refine k_dload C dL_law_1583 rfl ?_
  refine k_dload C dL_law_1585 rfl ?_
  refine k_dcmp C dL_law_1587 (dSelf_of _) ?_
  refine k_if_eq C dL_law_1588 (tgt := 1609) (by decide) hd (fun _ => fin _) (fun h0 => ?_)
  refine k_dload C dL_law_1591 rfl ?_
  refine k_dload C dL_law_1593 rfl ?_
  refine k_dcmp C dL_law_1595 (dSelf_of _) ?_
  refine k_if_eq C dL_law_1596 (tgt := 1607) (by decide) hd (fun e => absurd e h0) (fun _ => ?_)
  refine k_dload C dL_law_1599 rfl ?_
  refine k_dload C dL_law_1601 rfl ?_
  refine k_dcmp C dL_law_1603 (dSelf_of _) ?_
  exact k_if_ne C dL_law_1604 (tgt := 1609) (by decide) hd (fun _ => fin _) (fun e => absurd e h0)
theorem a_digest {w : Wd} {K : KT} {ret : Option FieldType} {nm : String} (C : Cx w K RL cL_law 10 ret nm 25 12986 600192 7294250) {h : Hp} {n k b x m o od N j : Nat} {X : XL} {σ : Sg} {L : ML} {th : Int} {s : Int64} {f : Int → Int} (B : isB w h x X σ m L σ th s o od b N f) (I : Inv σ j) (hf : ∀ i, i32 (f i)) (hj : 7 * j + 7 ≤ N ∧ N ≤ 224) (hnk : n ≤ NN j σ.n ∧ k ≤ SS j σ.n) (G : GoOn w K b x m o od N f j) : Wk w K h n k 1792 (Lc b x m o od (7 * (j : Int))) [] := by
  have hr := room_at (j := j) (c := σ.n) (by omega) I.1.1 I.2.1
  have hB := dig_room σ.n
  have hx := B.1.1
  obtain ⟨g, ho⟩ := B.2.2.2.2.2.1
  refine k_aload_n C dL_law_1792 rfl ?_
  refine kx_V C rfl mv_L_170 dL_law_1793 (c_digestX B.1 I.1) hx rfl rfl (Nat.le_of_ble_eq_true rfl) ⟨(Nat.le_of_ble_eq_true rfl), (Nat.le_of_ble_eq_true rfl)⟩ (by omega) (fun v h1 hp_ => ?_) (fun _ _ hx => hx.elim)
  obtain ⟨rfl, E1⟩ := hp_
  obtain ⟨X1, B1⟩ := B.goX I.1 (same_stepO B.1 B.2.1 E1) (Or.inl ⟨rfl, g, E1.2 _ _ ho⟩)
  have hm1 := B1.2.2.1.1
  refine k_aload_n C dL_law_1796 rfl ?_
  refine kx_V C rfl mv_L_174 dL_law_1797 (c_mDigest B1.2.2.1 I.1) hm1 rfl rfl (Nat.le_of_ble_eq_true rfl) ⟨(Nat.le_of_ble_eq_true rfl), (Nat.le_of_ble_eq_true rfl)⟩ (by omega) (fun v h2 hp_ => ?_) (fun _ _ hx => hx.elim)
  obtain ⟨rfl, M2, U2⟩ := hp_
  have SM := q_step M2 B1.2.2.2.1 U2
  obtain ⟨L2, B2⟩ := B1.goM I.1 SM
  refine k_lcmp C dL_law_1800 (z := 0) (lcmp_self _) ?_
  exact k_if_eq C dL_law_1801 (tgt := 1806) (by decide) (by omega) (fun _ => G.same I (stp.refl I.1) B2 rfl hnk (by omega)) (fun hne => absurd rfl hne)
