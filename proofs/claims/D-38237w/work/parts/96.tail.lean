/-! ===== the law's loop: its arms ===== -/
set_option maxRecDepth 100000
abbrev Lc (b x m o od : Nat) (z : Int) : List (Option Value) := [some (.ref b), some (.ref x), some (.ref m), some (.ref o), some (.ref od), some (jI z), none, none, none, none]
def GoOn (w : Wd) (K : KT) (b x m o od N : Nat) (f : Int → Int) (j : Nat) : Prop := ∀ (h : Hp) (X : XL) (σ : Sg) (L : ML) (th : Int) (s : Int64) (n k : Nat), isB w h x X σ m L σ th s o od b N f → Inv σ (j + 1) → n ≤ NN (j + 1) σ.n ∧ k ≤ SS (j + 1) σ.n → Wk w K h n k 1806 (Lc b x m o od (7 * (j : Int))) []
theorem isB.arrM {w : Wd} {h h' : Hp} {x : Nat} {X : XL} {σ : Sg} {m : Nat} {L : ML} {τ τ' : Sg} {th th' : Int} {s s' : Int64} {o od b N : Nat} {f : Int → Int} (B : isB w h x X σ m L τ th s o od b N f) (T : stepM w h h' m L τ τ' th' s') {q kd n : Nat} {v : Nat → Value} (e : h.2 q = some (.inr (kd, n, v))) (e2 : kd ≠ 4) (e3 : kd ≠ 5) : h'.2 q = some (.inr (kd, n, v)) := by
  obtain ⟨L', t1, t2, t3, t4⟩ := T
  exact keepN t3 (fun q hq => Or.inr (ownM_wr B.2.2.1 hq)) e (notN_a ⟨Or.inl e2, e3⟩)
theorem GoOn.same {w : Wd} {K : KT} {b x m o od N j : Nat} {f : Int → Int} (G : GoOn w K b x m o od N f j) {σ σ' : Sg} {n k n' k' : Nat} {h : Hp} {X : XL} {L : ML} {th : Int} {s : Int64} (I : Inv σ j) (S : stp σ σ') (B : isB w h x X σ' m L σ' th s o od b N f) (e : σ'.n = σ.n) (hnk : n ≤ NN j σ.n ∧ k ≤ SS j σ.n) (hc : n' ≤ n + Bc σ.n ∧ k' ≤ k + Bs σ.n) : Wk w K h n' k' 1806 (Lc b x m o od (7 * (j : Int))) [] := by
  have e1 := NN_same I.2.1
  have e2 := SS_same I.2.1
  refine G h X σ' L th s n' k' B (I.go S (by omega)) ?_
  rw [e]
  omega
theorem GoOn.grow {w : Wd} {K : KT} {b x m o od N j : Nat} {f : Int → Int} (G : GoOn w K b x m o od N f j) {σ σ' : Sg} {n k n' k' : Nat} {h : Hp} {X : XL} {L : ML} {th : Int} {s : Int64} (I : Inv σ j) (S : stp σ σ') (B : isB w h x X σ' m L σ' th s o od b N f) (e : σ'.n = σ.n + 1) (hnk : n ≤ NN j σ.n ∧ k ≤ SS j σ.n) (hc : n' ≤ n + 40 ∧ k' ≤ k + 3300) : Wk w K h n' k' 1806 (Lc b x m o od (7 * (j : Int))) [] := by
  have e1 := NN_grow (j := j) (c := σ.n)
  have e2 := SS_grow (j := j) (c := σ.n)
  refine G h X σ' L th s n' k' B (I.go S (by omega)) ?_
  rw [e]
  omega
theorem tl_int {w : Wd} {K : KT} {ret : Option FieldType} {nm : String} (C : Cx w K RL cL_law 10 ret nm 25 12986 600192 7294250) {h : Hp} {n k q b x m o od K0 : Nat} {L : ML} {τ : Sg} {s : Int64} {z r off : Int} {g : Nat → Value} (H : isMo w h m L τ (K0 : Nat) s) (ho : h.2 o = some (.inr (2, 1, g))) (hv : K0 = 0 → g 0 = .long (iL r)) (hK : K0 ≤ 3) (hr : n ≤ 600192 ∧ k ≤ 7294250)
    (d0 : decode cL_law q = .ok (.istore 7, 2)) (d1 : decode cL_law (q + 2) = .ok (.aload_n 2, 1)) (d2 : decode cL_law (q + 3) = .ok (.invokevirtual 96, 3)) (d3 : decode cL_law (q + 6) = .ok (.iload 6, 2)) (d4 : decode cL_law (q + 8) = .ok (.if_icmp .eq 5, 3)) (d5 : decode cL_law (q + 13) = .ok (.iload 6, 2)) (d6 : decode cL_law (q + 15) = .ok (.ifCond .ne 15, 3)) (d7 : decode cL_law (q + 18) = .ok (.aload_n 3, 1)) (d8 : decode cL_law (q + 19) = .ok (.iconst 0, 1)) (d9 : decode cL_law (q + 20) = .ok (.laload, 1)) (d10 : decode cL_law (q + 21) = .ok (.iload 7, 2)) (d11 : decode cL_law (q + 23) = .ok (.i2l, 1)) (d12 : decode cL_law (q + 24) = .ok (.lcmp, 1)) (d13 : decode cL_law (q + 25) = .ok (.ifCond .eq 5, 3)) (d14 : decode cL_law (q + 30) = .ok (.goto off, 3)) (ht : ((q + 30 : Nat) : Int) + off = 1806)
    (kk : Wk w K h n k 1806 (Lc b x m o od z) []) : Wk w K h n k q [some (.ref b), some (.ref x), some (.ref m), some (.ref o), some (.ref od), some (jI z), some (jI (K0 : Nat)), none, none, none] [jI r] := by
  have hm := H.1
  refine k_istore C d0 (Nat.le_of_ble_eq_true rfl) rfl ?_
  refine k_aload_n C d1 rfl ?_
  refine kx_V C rfl mv_L_96 d2 (c_mThrown H) hm rfl rfl (Nat.le_of_ble_eq_true rfl) ⟨(Nat.le_of_ble_eq_true rfl), (Nat.le_of_ble_eq_true rfl)⟩ (by omega) (fun v h' hp_ => ?_) (fun _ _ hx => hx.elim)
  obtain ⟨rfl, rfl⟩ := hp_
  refine k_iload C d3 rfl ?_
  refine k_icmp_eq C d4 (tgt := q + 13) (by omega) (by omega) (fun _ => ?_) (fun hne => absurd rfl hne)
  have fin : Wk w K h' (n + 0) (k + 0) (q + 30) [some (.ref b), some (.ref x), some (.ref m), some (.ref o), some (.ref od), some (jI z), some (jI (K0 : Nat)), some (jI r), none, none] [] := by
    refine k_goto C d14 (tgt := 1806) (by omega) ?_
    exact Wk.sub (by repeat (first | exact trivial | apply Lle.so | apply Lle.no)) kk
  refine k_iload C d5 rfl ?_
  refine k_if_ne C d6 (tgt := q + 30) (by omega) (by omega) (fun _ => fin) (fun h0 => ?_)
  have hg := hv (by omega)
  refine k_aload_n C d7 rfl ?_
  refine k_iconst C d8 ?_
  refine k_lald C d9 ho (by omega) hg ?_
  refine k_iload C d10 rfl ?_
  refine k_i2l C d11 ?_
  refine k_lcmp C d12 (z := 0) (lcmp_self _) ?_
  exact k_if_eq C d13 (tgt := q + 30) (by omega) (by omega) (fun _ => fin) (fun hne => absurd rfl hne)
theorem tl_bool {w : Wd} {K : KT} {ret : Option FieldType} {nm : String} (C : Cx w K RL cL_law 10 ret nm 25 12986 600192 7294250) {h : Hp} {n k q b x m o od K0 : Nat} {L : ML} {τ : Sg} {s : Int64} {z off : Int} {r : Bool} {g : Nat → Value} (H : isMo w h m L τ (K0 : Nat) s) (ho : h.2 o = some (.inr (2, 1, g))) (hv : K0 = 0 → g 0 = .long (iL (b2i r))) (hK : K0 ≤ 3) (hr : n ≤ 600192 ∧ k ≤ 7294250)
    (d0 : decode cL_law q = .ok (.istore 7, 2)) (d1 : decode cL_law (q + 2) = .ok (.aload_n 2, 1)) (d2 : decode cL_law (q + 3) = .ok (.invokevirtual 96, 3)) (d3 : decode cL_law (q + 6) = .ok (.iload 6, 2)) (d4 : decode cL_law (q + 8) = .ok (.if_icmp .eq 5, 3)) (d5 : decode cL_law (q + 13) = .ok (.iload 6, 2)) (d6 : decode cL_law (q + 15) = .ok (.ifCond .ne 22, 3)) (d7 : decode cL_law (q + 18) = .ok (.aload_n 3, 1)) (d8 : decode cL_law (q + 19) = .ok (.iconst 0, 1)) (d9 : decode cL_law (q + 20) = .ok (.laload, 1)) (d10 : decode cL_law (q + 21) = .ok (.iload 7, 2)) (d11 : decode cL_law (q + 23) = .ok (.ifCond .eq 7, 3)) (d12 : decode cL_law (q + 26) = .ok (.lconst 1, 1)) (d13 : decode cL_law (q + 27) = .ok (.goto 4, 3)) (d14 : decode cL_law (q + 30) = .ok (.lconst 0, 1)) (d15 : decode cL_law (q + 31) = .ok (.lcmp, 1)) (d16 : decode cL_law (q + 32) = .ok (.ifCond .eq 5, 3)) (d17 : decode cL_law (q + 37) = .ok (.goto off, 3)) (ht : ((q + 37 : Nat) : Int) + off = 1806)
    (kk : Wk w K h n k 1806 (Lc b x m o od z) []) : Wk w K h n k q [some (.ref b), some (.ref x), some (.ref m), some (.ref o), some (.ref od), some (jI z), some (jI (K0 : Nat)), none, none, none] [jI (b2i r)] := by
  have hm := H.1
  refine k_istore C d0 (Nat.le_of_ble_eq_true rfl) rfl ?_
  refine k_aload_n C d1 rfl ?_
  refine kx_V C rfl mv_L_96 d2 (c_mThrown H) hm rfl rfl (Nat.le_of_ble_eq_true rfl) ⟨(Nat.le_of_ble_eq_true rfl), (Nat.le_of_ble_eq_true rfl)⟩ (by omega) (fun v h' hp_ => ?_) (fun _ _ hx => hx.elim)
  obtain ⟨rfl, rfl⟩ := hp_
  refine k_iload C d3 rfl ?_
  refine k_icmp_eq C d4 (tgt := q + 13) (by omega) (by omega) (fun _ => ?_) (fun hne => absurd rfl hne)
  have fin : Wk w K h' (n + 0) (k + 0) (q + 37) [some (.ref b), some (.ref x), some (.ref m), some (.ref o), some (.ref od), some (jI z), some (jI (K0 : Nat)), some (jI (b2i r)), none, none] [] := by
    refine k_goto C d17 (tgt := 1806) (by omega) ?_
    exact Wk.sub (by repeat (first | exact trivial | apply Lle.so | apply Lle.no)) kk
  refine k_iload C d5 rfl ?_
  refine k_if_ne C d6 (tgt := q + 37) (by omega) (by omega) (fun _ => fin) (fun h0 => ?_)
  have hg := hv (by omega)
  refine k_aload_n C d7 rfl ?_
  refine k_iconst C d8 ?_
  refine k_lald C d9 ho (by omega) hg ?_
  refine k_iload C d10 rfl ?_
  cases r with
  | false =>
    refine k_ifeq_b (b := false) C d11 (tgt := q + 30) (by omega) (fun _ => ?_) (fun e => by cases e)
    refine k_lconst C d14 (v := 0) rfl ?_
    refine k_lcmp C d15 (z := 0) (lcmp_self _) ?_
    exact k_if_eq C d16 (tgt := q + 37) (by omega) (by omega) (fun _ => fin) (fun hne => absurd rfl hne)
  | true =>
    refine k_ifeq_b (b := true) C d11 (tgt := q + 30) (by omega) (fun e => by cases e) (fun _ => ?_)
    refine k_lconst C d12 (v := 1) rfl ?_
    refine k_goto C d13 (tgt := q + 31) (by omega) ?_
    refine k_lcmp C d15 (z := 0) (lcmp_self _) ?_
    exact k_if_eq C d16 (tgt := q + 37) (by omega) (by omega) (fun _ => fin) (fun hne => absurd rfl hne)
