/-! ===== windows: the walk ===== -/
set_option maxRecDepth 100000
def isWn (h : Hp) (o t la ra sa : Nat) (T : Tb) (n M : Nat) (g : Gw) : Prop := h.2 o = some (.inl (12, [.ref t, jI (n : Nat), .ref la, .ref ra, .ref sa, jI (b2i g.gr)])) ∧ h.2 la = some (aI 1 M g.lf) ∧ h.2 ra = some (aI 1 M g.rg) ∧ h.2 sa = some (aI 1 (szW T M) g.sn) ∧ la ≠ ra ∧ la ≠ sa ∧ ra ≠ sa
theorem pw_n {n M : Nat} (hM : isM n M) : (1 : Int) * 2 ^ ((n : Int)).toNat = M ∧ (2 : Int) ^ ((n : Int)).toNat = M ∧ (2 : Int) ^ (2 * (n : Int)).toNat = (M : Int) * M ∧ (2 : Int) ^ (2 * (n : Int) + 1).toNat = 2 * ((M : Int) * M) ∧ (2 : Int) ^ ((n : Int) - 1).toNat = (M : Int) / 2 := by
  rcases hM with ⟨rfl, rfl⟩ | ⟨rfl, rfl⟩ | ⟨rfl, rfl⟩ <;> refine ⟨rfl, rfl, rfl, rfl, rfl⟩
theorem szW_b {T : Tb} (hT : TbOk T) {n M : Nat} (hM : isM n M) : 0 < szW T M ∧ szW T M ≤ 512 ∧ (T.1 : Int) * (2 * ((M : Int) * M)) = szW T M := by
  have h1 := hT.1
  have h2 := hT.2.1
  unfold szW
  rcases hM with ⟨rfl, rfl⟩ | ⟨rfl, rfl⟩ | ⟨rfl, rfl⟩ <;> refine ⟨by omega, by omega, by omega⟩
theorem c_winInit {w : Wd} {h : Hp} {o t lst ar0 n M : Nat} {T : Tb} (hM : isM n M) (G : isTb w h t lst ar0 T) (hT : TbOk T) (ho : h.2 o = some (.inl (12, [.null, jI 0, .null, .null, .null, jI 0]))) : Ct w yX13_init (ws_ yX13_init cX13_init 3 none) 1 40 3 (2 * M + szW T M) [.ref o, .ref t, jI (n : Nat)] h (fun v h' => v = none ∧ ∃ la ra sa, h.2 la = none ∧ h.2 ra = none ∧ h.2 sa = none ∧ isWn h' o t la ra sa T n M g0 ∧ Upd h h' [o]) NoX := by
  obtain ⟨e1, e2, e3, e4, e5⟩ := pw_n hM
  obtain ⟨s1, s2, s3⟩ := szW_b hT hM
  have hn : 1 ≤ n ∧ n ≤ 3 ∧ 2 ≤ M ∧ M ≤ 8 := by rcases hM with ⟨rfl, rfl⟩ | ⟨rfl, rfl⟩ | ⟨rfl, rfl⟩ <;> omega
  have G1 := G.1
  have hto : t ≠ o := ne_cel G1 ho (ne_cls (by decide))
  refine Ct.of (by decide) [some (.ref o), some (.ref t), some (jI (n : Nat))] rfl (Nat.le_of_ble_eq_true rfl) (fun K C E N0 => ?_)
  refine k_aload_n C dX13_init_0 rfl ?_
  refine k_objinit C rfl q979 q72 qobj dX13_init_1 ⟨(Nat.le_of_ble_eq_true rfl), (Nat.le_of_ble_eq_true rfl)⟩ ?_
  refine k_aload_n C dX13_init_4 rfl ?_
  refine k_iconst C dX13_init_5 ?_
  refine k_put C fg_X13_7 ft_12_5 dX13_init_6 (by assumption) rfl rfl rfl (fun h1 P1 => ?_)
  have o1 := P1.2.1
  refine k_aload_n C dX13_init_9 rfl ?_
  refine k_aload_n C dX13_init_10 rfl ?_
  refine k_putF C fg_X13_13 ft_12_0 rfl (fun r hr => by cases hr; rfl) dX13_init_11 (by assumption) (Or.inl rfl) rfl rfl (fun h2 P2 => ?_)
  have o2 := P2.2.1
  refine k_aload_n C dX13_init_14 rfl ?_
  refine k_iload_n C dX13_init_15 rfl ?_
  refine k_putF C fg_X13_17 ft_12_1 rfl (fun r hr => by cases hr; rfl) dX13_init_16 (by assumption) (Or.inl rfl) rfl rfl (fun h3 P3 => ?_)
  have o3 := P3.2.1
  have Q3 := (P1.trans P2).trans P3
  refine k_aload_n C dX13_init_19 rfl ?_
  refine k_iconst C dX13_init_20 ?_
  refine k_iload_n C dX13_init_21 rfl ?_
  refine k_ishl C dX13_init_22 (by omega) ?_
  rw [e1]
  refine k_newarr (kd := 1) (g := fun j : Nat => jI ((fun _ => 0 : Int → Int) (j : Int))) C q999 rfl rfl (fun _ => rfl) dX13_init_23 (by omega) (by decide) (by omega) (fun la h4 N4 => ?_)
  rw [show ((M : Int)).toNat = M by omega] at N4 ⊢
  have o4 := N4.2.2.1.2 _ _ o3
  have ol := N4.ne o3
  refine k_putF C fg_X13_21 ft_12_2 rfl (fun r hr => by cases hr; rfl) dX13_init_25 (by assumption) (Or.inl rfl) rfl rfl (fun h5 P5 => ?_)
  have o5 := P5.2.1
  have l5 := P5.2.2 _ _ N4.2.1 (Ne.symm ol)
  have U5 : Upd h h5 [o] := (Q3.upd.trans (N4.2.2.1.upd [o]) (fun x hx => Or.inl hx)).trans P5.upd (fun x hx => Or.inl hx)
  refine k_aload_n C dX13_init_28 rfl ?_
  refine k_iconst C dX13_init_29 ?_
  refine k_iload_n C dX13_init_30 rfl ?_
  refine k_ishl C dX13_init_31 (by omega) ?_
  rw [e1]
  refine k_newarr (kd := 1) (g := fun j : Nat => jI ((fun _ => 0 : Int → Int) (j : Int))) C q999 rfl rfl (fun _ => rfl) dX13_init_32 (by omega) (by decide) (by omega) (fun ra h6 N6 => ?_)
  rw [show ((M : Int)).toNat = M by omega] at N6 ⊢
  have o6 := N6.2.2.1.2 _ _ o5
  have or := N6.ne o5
  have lr := N6.ne l5
  have l6 := N6.2.2.1.2 _ _ l5
  refine k_putF C fg_X13_25 ft_12_3 rfl (fun r hr => by cases hr; rfl) dX13_init_34 (by assumption) (Or.inl rfl) rfl rfl (fun h7 P7 => ?_)
  have o7 := P7.2.1
  have l7 := P7.2.2 _ _ l6 (Ne.symm ol)
  have r7 := P7.2.2 _ _ N6.2.1 (Ne.symm or)
  have U7 : Upd h h7 [o] := (U5.trans (N6.2.2.1.upd [o]) (fun x hx => Or.inl hx)).trans P7.upd (fun x hx => Or.inl hx)
  have t7 := U7.2 _ _ G1 (by simpa using hto)
  refine k_aload_n C dX13_init_37 rfl ?_
  refine k_aload_n C dX13_init_38 rfl ?_
  refine k_getN C fn_X13_28 dX13_init_39 (by assumption) (by rfl) ?_
  refine k_iconst C dX13_init_42 ?_
  refine k_iload_n C dX13_init_43 rfl ?_
  refine k_imul C dX13_init_44 ?_
  refine k_iconst C dX13_init_45 ?_
  refine k_iadd C dX13_init_46 ?_
  refine k_ishl C dX13_init_47 (by omega) ?_
  rw [e4, s3]
  refine k_newarr (kd := 1) (g := fun j : Nat => jI ((fun _ => 0 : Int → Int) (j : Int))) C q999 rfl rfl (fun _ => rfl) dX13_init_48 (by omega) (by decide) (by omega) (fun sa h8 N8 => ?_)
  rw [show ((szW T M : Nat) : Int).toNat = szW T M by omega] at N8 ⊢
  have o8 := N8.2.2.1.2 _ _ o7
  have os := N8.ne o7
  have ls := N8.ne l7
  have rs := N8.ne r7
  have l8 := N8.2.2.1.2 _ _ l7
  have r8 := N8.2.2.1.2 _ _ r7
  refine k_putF C fg_X13_33 ft_12_4 rfl (fun r hr => by cases hr; rfl) dX13_init_50 (by assumption) (Or.inl rfl) rfl rfl (fun h9 P9 => ?_)
  have o9 := P9.2.1
  have l9 := P9.2.2 _ _ l8 (Ne.symm ol)
  have r9 := P9.2.2 _ _ r8 (Ne.symm or)
  have s9 := P9.2.2 _ _ N8.2.1 (Ne.symm os)
  have U9 : Upd h h9 [o] := (U7.trans (N8.2.2.1.upd [o]) (fun x hx => Or.inl hx)).trans P9.upd (fun x hx => Or.inl hx)
  have la0 : h.2 la = none := Q3.upd.none N4.1 (by simpa using Ne.symm ol)
  have ra0 : h.2 ra = none := U5.none N6.1 (by simpa using Ne.symm or)
  have sa0 : h.2 sa = none := U7.none N8.1 (by simpa using Ne.symm os)
  have l9' : h9.2 la = some (aI 1 M (fun _ => 0)) := l9
  have r9' : h9.2 ra = some (aI 1 M (fun _ => 0)) := r9
  have s9' : h9.2 sa = some (aI 1 (szW T M) (fun _ => 0)) := s9
  refine k_aload_n C dX13_init_53 rfl ?_
  refine k_get C fg_X13_21 dX13_init_54 (by assumption) (by rfl) ?_
  refine k_iconst C dX13_init_57 ?_
  refine k_iconst C dX13_init_58 ?_
  refine k_zast (b := true) C dX13_init_59 l9' (by omega) (fun hA PA => ?_)
  have oA := PA.2.2 _ _ o9 ol
  have rA := PA.2.2 _ _ r9' (Ne.symm lr)
  have sA := PA.2.2 _ _ s9' (Ne.symm ls)
  refine k_aload_n C dX13_init_60 rfl ?_
  refine k_get C fg_X13_25 dX13_init_61 (by assumption) (by rfl) ?_
  refine k_iconst C dX13_init_64 ?_
  refine k_iconst C dX13_init_65 ?_
  refine k_zast (b := true) C dX13_init_66 rA (by omega) (fun hB PB => ?_)
  have oB := PB.2.2 _ _ oA or
  have lB := PB.2.2 _ _ PA.2.1 lr
  have sB := PB.2.2 _ _ sA (Ne.symm rs)
  refine k_aload_n C dX13_init_67 rfl ?_
  refine k_get C fg_X13_33 dX13_init_68 (by assumption) (by rfl) ?_
  refine k_iconst C dX13_init_71 ?_
  refine k_iconst C dX13_init_72 ?_
  refine k_zast (b := true) C dX13_init_73 sB (by omega) (fun hC PC => ?_)
  have oC := PC.2.2 _ _ oB os
  have lC := PC.2.2 _ _ lB ls
  have rC := PC.2.2 _ _ PB.2.1 rs
  have UC : Upd h hC [o] := ((U9.trans PA.upd (fun x hx => Or.inr (by rw [show x = la by simpa using hx]; exact la0))).trans PB.upd (fun x hx => Or.inr (by rw [show x = ra by simpa using hx]; exact ra0))).trans PC.upd (fun x hx => Or.inr (by rw [show x = sa by simpa using hx]; exact sa0))
  exact k_vret C E dX13_init_74 (by omega) ⟨rfl, la, ra, sa, la0, ra0, sa0, ⟨oC, lC, rC, PC.2.1, lr, ls, rs⟩, UC⟩
theorem c_number {w : Wd} {h : Hp} {o n M : Nat} {v0 v2 v3 v4 v5 : Value} {s b l r : Int} (hM : isM n M) (ho : h.2 o = some (.inl (12, [v0, jI (n : Nat), v2, v3, v4, v5]))) : Ct w yX13_number (ws_ yX13_number cX13_number 5 (some FieldType.int)) 0 0 0 0 [.ref o, jI s, jI b, jI l, jI r] h (fun v h' => v = some (jI (numW M s b l r)) ∧ h' = h) NoX := by
  obtain ⟨e1, e2, e3, e4, e5⟩ := pw_n hM
  have hn : 1 ≤ n ∧ n ≤ 3 ∧ 2 ≤ M ∧ M ≤ 8 := by rcases hM with ⟨rfl, rfl⟩ | ⟨rfl, rfl⟩ | ⟨rfl, rfl⟩ <;> omega
  refine Ct.of (by decide) [some (.ref o), some (jI s), some (jI b), some (jI l), some (jI r)] rfl (Nat.le_of_ble_eq_true rfl) (fun K C E N0 => ?_)
  refine k_iload_n C dX13_number_0 rfl ?_
  refine k_iconst C dX13_number_1 ?_
  refine k_imul C dX13_number_2 ?_
  refine k_iload_n C dX13_number_3 rfl ?_
  refine k_iadd C dX13_number_4 ?_
  refine k_aload_n C dX13_number_5 rfl ?_
  refine k_get C fg_X13_17 dX13_number_6 (by assumption) (by rfl) ?_
  refine k_ishl C dX13_number_9 (by omega) ?_
  refine k_iload_n C dX13_number_10 rfl ?_
  refine k_iadd C dX13_number_11 ?_
  refine k_aload_n C dX13_number_12 rfl ?_
  refine k_get C fg_X13_17 dX13_number_13 (by assumption) (by rfl) ?_
  refine k_ishl C dX13_number_16 (by omega) ?_
  refine k_iload C dX13_number_17 rfl ?_
  refine k_iadd C dX13_number_19 ?_
  rw [e2]
  exact k_iret C E dX13_number_20 (by omega) ⟨rfl, rfl⟩
theorem orB (g : Bool) (x : Int) : (((b2i g).toNat ||| (b2i (decide (x = 0))).toNat : Nat) : Int) = b2i (g || decide (x = 0)) := by
  cases g <;> cases decide (x = 0) <;> rfl
theorem c_mark {w : Wd} {h : Hp} {o arr N : Nat} {v0 v1 v2 v3 v4 : Value} {g : Bool} {f : Int → Int} {k : Int} (ho : h.2 o = some (.inl (12, [v0, v1, v2, v3, v4, jI (b2i g)]))) (ha : h.2 arr = some (aI 1 N f)) (hk : 0 ≤ k ∧ k < N ∧ N < 100000) (hf : is01 f) : Ct w yX13_mark (ws_ yX13_mark cX13_mark 3 none) 0 0 0 0 [.ref o, .ref arr, jI k] h (fun v h' => v = none ∧ h'.2 o = some (.inl (12, [v0, v1, v2, v3, v4, jI (b2i (g || decide (f k = 0)))])) ∧ h'.2 arr = some (aI 1 N (up f k 1)) ∧ Upd h h' [o, arr]) NoX := by
  have hao : arr ≠ o := ne_cel ha ho ne_oa
  have hk1 := hf k
  have hg : 0 ≤ b2i g ∧ b2i g ≤ 1 := by cases g <;> decide
  refine Ct.of (by decide) [some (.ref o), some (.ref arr), some (jI k)] rfl (Nat.le_of_ble_eq_true rfl) (fun K C E N0 => ?_)
  have fin : Wk w K h 0 0 16 [some (.ref o), some (.ref arr), some (jI k)] [jI (b2i (decide (f k = 0))), jI (b2i g), .ref o] := by
    have hd : 0 ≤ b2i (decide (f k = 0)) ∧ b2i (decide (f k = 0)) ≤ 1 := by cases decide (f k = 0) <;> decide
    refine k_ior C dX13_mark_16 (by omega) ?_
    rw [orB]
    refine k_put C fg_X13_7 ft_12_5 dX13_mark_17 (by assumption) rfl (nar_b _) (fit_b _) (fun h1 P1 => ?_)
    have a1 := P1.2.2 _ _ ha hao
    refine k_aload_n C dX13_mark_20 rfl ?_
    refine k_iload_n C dX13_mark_21 rfl ?_
    refine k_iconst C dX13_mark_22 ?_
    refine k_zast (b := true) C dX13_mark_23 a1 (by omega) (fun h2 P2 => ?_)
    exact k_vret C E dX13_mark_24 (by omega) ⟨rfl, P2.2.2 _ _ P1.2.1 (Ne.symm hao), P2.2.1, (P1.upd.sub (by simp)).trans P2.upd (fun x hx => Or.inl (by simpa using Or.inr (by simpa using hx)))⟩
  refine k_aload_n C dX13_mark_0 rfl ?_
  refine k_dup C dX13_mark_1 rfl ?_
  refine k_get C fg_X13_7 dX13_mark_2 (by assumption) (by rfl) ?_
  refine k_aload_n C dX13_mark_5 rfl ?_
  refine k_iload_n C dX13_mark_6 rfl ?_
  refine k_zald C dX13_mark_7 (by assumption) (by omega) ?_
  refine k_if_ne C dX13_mark_8 (tgt := 15) (by decide) (by omega) (fun g1 => ?_) (fun g2 => ?_)
  · refine k_iconst C dX13_mark_15 ?_
    rw [show decide (f k = 0) = false from decide_eq_false g1] at fin
    exact fin
  · refine k_iconst C dX13_mark_11 ?_
    refine k_goto C dX13_mark_12 (tgt := 16) (by decide) ?_
    rw [show decide (f k = 0) = true from decide_eq_true g2] at fin
    exact fin
