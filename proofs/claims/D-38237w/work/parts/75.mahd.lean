/-! ===== the model: the rows ahead ===== -/
set_option maxRecDepth 100000
theorem bit_side {M P : Nat} (h : M < 65536) : 0 ≤ ((M : Nat) : Int) / 2 ^ ((P : Nat) : Int).toNat ∧ ((M : Nat) : Int) / 2 ^ ((P : Nat) : Int).toNat < 2147483648 ∧ (0 : Int) ≤ 1 ∧ (1 : Int) < 2147483648 := by
  rw [Int.toNat_natCast, show ((M : Nat) : Int) / 2 ^ P = ((M / 2 ^ P : Nat) : Int) by rw [Int.natCast_ediv, Int.natCast_pow]; rfl]
  have := Nat.div_le_self M (2 ^ P)
  generalize M / 2 ^ P = d at *
  omega
theorem c_mAhead2 {w : Wd} {h h0 : Hp} {md cs o l ar : Nat} {T : Tb} {kv av bv : Int} {row : Rw} {acc : List Rw} {f : Int → Option Nat} (G : isMd h0 md cs T kv av bv) (hT : TbOk T) (R : isRm h0 o row) (hr : RwOk T 5 row) (A : isAL w h l ar acc.length (capOf acc.length) f) (S : isRms h acc f) (E0 : Ext h0 h) (l0 : h0.2 l = none) (a0 : 0 < acc.length → h0.2 ar = none) (hl : (colK (cellRow T row) (2 * T.1) 0 acc).length ≤ 200) :
    Ct w yX3_ahead_2 (ws_ yX3_ahead_2 cX3_ahead_2 7 none) 8 211 (((colK (cellRow T row) (2 * T.1) 0 acc).length + payC (colK (cellRow T row) (2 * T.1) 0 acc).length) - (acc.length + payC acc.length)) ((4 * (colK (cellRow T row) (2 * T.1) 0 acc).length + payS (colK (cellRow T row) (2 * T.1) 0 acc).length) - (4 * acc.length + payS acc.length)) [.ref md, .ref o, .ref l] h
      (fun v h' => v = none ∧ ∃ ar' f', isAL w h' l ar' (colK (cellRow T row) (2 * T.1) 0 acc).length (capOf (colK (cellRow T row) (2 * T.1) 0 acc).length) f' ∧ isRms h' (colK (cellRow T row) (2 * T.1) 0 acc) f' ∧ Ext h0 h' ∧ (0 < (colK (cellRow T row) (2 * T.1) 0 acc).length → h0.2 ar' = none) ∧ ∀ (q : Nat) (v : List Value), h.2 q = some (.inl (16, v)) → h'.2 q = some (.inl (16, v))) NoX := by
  have hT2 := hT.2.1
  obtain ⟨m0, fc, m1, m2⟩ := id G
  obtain ⟨gr, M, B, ro, ⟨y0, y1, y2, y3⟩, hbits⟩ := id R
  obtain ⟨⟨s1, s2⟩, ⟨p1, p2⟩, kn⟩ := id hr
  obtain ⟨⟨b1, b2⟩, b3⟩ := id hbits
  have bt : b2i true = 1 := rfl
  have bf : b2i false = 0 := rfl
  generalize hres : colK (cellRow T row) (2 * T.1) 0 acc = res at *
  refine Ct.of (by decide) [some (.ref md), some (.ref o), some (.ref l), none, none, none, none] rfl (Nat.le_of_ble_eq_true rfl) (fun K C E N0 => ?_)
  have loop : ∀ (d i ar n k : Nat) (hh : Hp) (f : Int → Option Nat) (ac : List Rw), i + d = 2 * T.1 → n + (acc.length + payC acc.length) = ac.length + payC ac.length → k + (4 * acc.length + payS acc.length) = 4 * ac.length + payS ac.length → isAL w hh l ar ac.length (capOf ac.length) f → isRms hh ac f → Ext h0 hh → (0 < ac.length → h0.2 ar = none) → (∀ (q : Nat) (v : List Value), h.2 q = some (.inl (16, v)) → hh.2 q = some (.inl (16, v))) → colK (cellRow T row) d i ac = res → Wk w K hh n k 2 [some (.ref md), some (.ref o), some (.ref l), some (jI (i : Nat)), none, none, none] [] := by
    intro d
    induction d with
    | zero =>
      intro i ar n k hh f ac hi hn hk h1 h2 h3 h4 h16 h5
      have m01 := h3.2 _ _ m0
      have m11 := h3.2 _ _ m1
      have e : ac = res := h5
      subst e
      refine k_iload_n C dX3_ahead_2_2 rfl ?_
      refine k_aload_n C dX3_ahead_2_3 rfl ?_
      refine k_getN C fn_X3_59 dX3_ahead_2_4 (by assumption) (by rfl) ?_
      refine k_alen C dX3_ahead_2_7 (by assumption) (by rfl) ?_
      refine k_icmp_ge C dX3_ahead_2_8 (tgt := 137) (by decide) (by omega) (fun g1 => ?_) (fun g2 => ?_)
      · exact k_vret C E dX3_ahead_2_137 (by omega) ⟨rfl, ar, f, h1, h2, h3, h4, h16⟩
      · omega
    | succ d ih =>
      intro i ar n k hh f ac hi hn hk h1 h2 h3 h4 h16 h5
      have m01 := h3.2 _ _ m0
      have m11 := h3.2 _ _ m1
      have ro1 := h3.2 _ _ ro
      have hc := m2 (i : Int) (by omega) (by omega)
      have la := (colK_b (f := cellRow T row) (d + 1) i ac).1
      rw [h5] at la
      have pc := payC_le la
      have ps := payS_le la
      refine k_iload_n C dX3_ahead_2_2 rfl ?_
      refine k_aload_n C dX3_ahead_2_3 rfl ?_
      refine k_getN C fn_X3_59 dX3_ahead_2_4 (by assumption) (by rfl) ?_
      refine k_alen C dX3_ahead_2_7 (by assumption) (by rfl) ?_
      refine k_icmp_ge C dX3_ahead_2_8 (tgt := 137) (by decide) (by omega) (fun g1 => ?_) (fun g2 => ?_)
      · omega
      · cases hce : T.2 (i : Int) with
        | none =>
          rw [hce] at hc
          have hf : fc (i : Int) = none := hc
          rw [colK_none (by unfold cellRow; rw [hce])] at h5
          refine k_aload_n C dX3_ahead_2_11 rfl ?_
          refine k_getN C fn_X3_59 dX3_ahead_2_12 (by assumption) (by rfl) ?_
          refine k_iload_n C dX3_ahead_2_15 rfl ?_
          refine k_aald C dX3_ahead_2_16 (by assumption) (by rfl) (by rfl) (by omega) hf ?_
          refine k_astoreN C dX3_ahead_2_17 (Nat.le_of_ble_eq_true rfl) rfl ?_
          refine k_aloadN C dX3_ahead_2_19 rfl ?_
          refine k_ifnullN C dX3_ahead_2_21 (tgt := 131) (by decide) ?_
          refine k_iinc C dX3_ahead_2_131 rfl rfl ?_
          refine k_goto C dX3_ahead_2_134 (tgt := 2) (by decide) ?_
          exact Wk.sub (by repeat (first | exact trivial | apply Lle.so | apply Lle.no)) (ih (i + 1) ar n k hh f ac (by omega) hn hk h1 h2 h3 h4 h16 h5)
        | some ru =>
          rw [hce] at hc
          obtain ⟨p, g, hf, hp, z0, z1, z2⟩ := hc
          have hp1 := h3.2 _ _ hp
          obtain ⟨u1, u2, u3, u4⟩ := hT.2.2 _ ru (by omega) (by omega) hce
          have hu1 : 0 ≤ ru.1 ∧ ru.1 ≤ 1 := by omega
          have hu2 : -1 ≤ ru.2.1 ∧ ru.2.1 ≤ 1 := by omega
          obtain ⟨P, hP⟩ : ∃ P : Nat, row.2.1 + 8 - ru.2.1 = (P : Nat) := ⟨(row.2.1 + 8 - ru.2.1).toNat, by omega⟩
          have hP16 : P < 16 := by omega
          have hPp : row.2.1 - ru.2.1 = (P : Int) - 8 := by omega
          obtain ⟨k1, k2⟩ := b3 P hP16
          rw [← hPp] at k1 k2
          have hq15 : 2 ^ P ≤ 2 ^ 15 := Nat.pow_le_pow_right (by decide) (by omega)
          -- nothing comes of it
          have skip : stepR row (i : Int) ru = none → Wk w K hh n k 131 [some (.ref md), some (.ref o), some (.ref l), some (jI (i : Nat)), none, none, none] [] := by
            intro hs
            rw [colK_none (by unfold cellRow; rw [hce]; exact hs)] at h5
            refine k_iinc C dX3_ahead_2_131 rfl rfl ?_
            refine k_goto C dX3_ahead_2_134 (tgt := 2) (by decide) ?_
            exact Wk.sub (by repeat (first | exact trivial | apply Lle.so | apply Lle.no)) (ih (i + 1) ar n k hh f ac (by omega) hn hk h1 h2 h3 h4 h16 h5)
          -- a row more
          have put : stepR row (i : Int) ru = some ((i : Int) / 2, row.2.1 - ru.2.1, up row.2.2 (row.2.1 - ru.2.1) ((i : Int) % 2)) → Wk w K hh n k 77 [some (.ref md), some (.ref o), some (.ref l), some (jI (i : Nat)), some (.ref p), some (jI (P : Nat)), none] [] := by
            intro hs
            rw [colK_some (by unfold cellRow; rw [hce]; exact hs)] at h5
            have lb := (colK_b (f := cellRow T row) d (i + 1) (ac ++ [((i : Int) / 2, row.2.1 - ru.2.1, up row.2.2 (row.2.1 - ru.2.1) ((i : Int) % 2))])).1
            rw [h5, len1] at lb
            have pc1 := payC_le lb
            have ps1 := payS_le lb
            have pc2 : payC (ac.length + 1) = payC ac.length + gcC ac.length (capOf ac.length) := rfl
            have ps2 : payS (ac.length + 1) = payS ac.length + gcS ac.length (capOf ac.length) := rfl
            have bs := bits_step (i := i) hbits hP16 (show row.2.1 - ru.2.1 + 8 = P by omega)
            obtain ⟨Q, hQ⟩ : ∃ Q, Q = 2 ^ P := ⟨_, rfl⟩
            have hp2 : (1 : Int) * 2 ^ ((P : Nat) : Int).toNat = (Q : Nat) := by rw [hQ, Int.toNat_natCast, Int.one_mul, Int.natCast_pow]; rfl
            have hp3 : ((i : Nat) : Int) % 2 * 2 ^ ((P : Nat) : Int).toNat = ((i % 2 * Q : Nat) : Int) := by rw [hQ, Int.toNat_natCast, Int.natCast_mul, Int.natCast_emod, Int.natCast_pow]; rfl
            rw [← hQ] at bs hq15
            have hx : i % 2 * Q ≤ 1 * 2 ^ 15 := Nat.mul_le_mul (by omega) hq15
            obtain ⟨X, hX⟩ : ∃ X, X = i % 2 * Q := ⟨_, rfl⟩
            obtain ⟨Y, hY⟩ : ∃ Y, Y = B &&& (2 ^ 32 - (Q + 1)) := ⟨_, rfl⟩
            have hY2 : Y < 65536 := by rw [hY]; exact Nat.lt_of_le_of_lt Nat.and_le_left b2
            rw [← hX] at hp3 hx bs
            rw [← hY] at bs
            refine k_iconst C dX3_ahead_2_77 ?_
            refine k_newarr (kd := 0) (g := fun j : Nat => jI ((fun _ => 0 : Int → Int) (j : Int))) C q358 rfl rfl (fun _ => rfl) dX3_ahead_2_78 (by omega) (by decide) (by omega) (fun oN hA NA => ?_)
            have oA : hA.2 oN = some (aI 0 4 (fun _ => 0)) := NA.2.1
            refine k_dup C dX3_ahead_2_80 rfl ?_
            refine k_iconst C dX3_ahead_2_81 ?_
            refine k_iload_n C dX3_ahead_2_82 rfl ?_
            refine k_iconst C dX3_ahead_2_83 ?_
            refine k_idiv C dX3_ahead_2_84 (by omega) ?_
            refine k_iast C dX3_ahead_2_85 (by assumption) (by omega) (fun hB PB => ?_)
            have oB := PB.2.1
            have NB := NA.put PB
            refine k_dup C dX3_ahead_2_86 rfl ?_
            refine k_iconst C dX3_ahead_2_87 ?_
            refine k_iload C dX3_ahead_2_88 rfl ?_
            refine k_iast C dX3_ahead_2_90 (by assumption) (by omega) (fun hC PC => ?_)
            have oC := PC.2.1
            have NC := NB.put PC
            have roC := NC.2.2.1.2 _ _ ro1
            refine k_dup C dX3_ahead_2_91 rfl ?_
            refine k_iconst C dX3_ahead_2_92 ?_
            refine k_aload_n C dX3_ahead_2_93 rfl ?_
            refine k_iconst C dX3_ahead_2_94 ?_
            refine k_iald C dX3_ahead_2_95 (by assumption) (by rfl) (by omega) ?_
            rw [y2]
            refine k_iconst C dX3_ahead_2_96 ?_
            refine k_iload C dX3_ahead_2_97 rfl ?_
            refine k_ishl C dX3_ahead_2_99 (by omega) ?_
            rw [hp2]
            refine k_ior C dX3_ahead_2_100 (by omega) ?_
            refine k_iast C dX3_ahead_2_101 (by assumption) (by omega) (fun hD PD => ?_)
            have oD := PD.2.1
            have ND := NC.put PD
            have roD := ND.2.2.1.2 _ _ ro1
            refine k_dup C dX3_ahead_2_102 rfl ?_
            refine k_iconst C dX3_ahead_2_103 ?_
            refine k_aload_n C dX3_ahead_2_104 rfl ?_
            refine k_iconst C dX3_ahead_2_105 ?_
            refine k_iald C dX3_ahead_2_106 (by assumption) (by rfl) (by omega) ?_
            rw [y3]
            refine k_iconst C dX3_ahead_2_107 ?_
            refine k_iload C dX3_ahead_2_108 rfl ?_
            refine k_ishl C dX3_ahead_2_110 (by omega) ?_
            rw [hp2]
            refine k_iconst C dX3_ahead_2_111 ?_
            refine k_ixorm C dX3_ahead_2_112 (a := Q) (by omega) ?_
            refine k_iandB C dX3_ahead_2_113 (a := B) (b := 2 ^ 32 - (Q + 1)) (by omega) (by omega) ?_
            rw [← hY]
            refine k_iload_n C dX3_ahead_2_114 rfl ?_
            refine k_iconst C dX3_ahead_2_115 ?_
            refine k_irem C dX3_ahead_2_116 (by omega) ?_
            refine k_iload C dX3_ahead_2_117 rfl ?_
            refine k_ishl C dX3_ahead_2_119 (by omega) ?_
            rw [hp3]
            refine k_ior C dX3_ahead_2_120 (by omega) ?_
            refine k_iast C dX3_ahead_2_121 (by assumption) (by omega) (fun hE PE => ?_)
            have NE := ND.put PE
            have oE := NE.2.1
            have EE := NE.2.2.1
            have RE : isRm hE oN ((i : Int) / 2, row.2.1 - ru.2.1, up row.2.2 (row.2.1 - ru.2.1) ((i : Int) % 2)) := ⟨_, M ||| Q, Y ||| X, oE, ⟨by rw [up_ne (by decide), up_ne (by decide), up_ne (by decide), up_at], by rw [up_ne (by decide), up_ne (by decide), up_at]; show (P : Int) = row.2.1 - ru.2.1 + 8; omega, by rw [up_ne (by decide), up_at]; rfl, by rw [up_at]; rfl⟩, bs⟩
            have AE := h1.ext EE
            have SE := h2.ext EE
            have lE := AE.1
            have ol : oN ≠ l := Ne.symm (NA.ne h1.1)
            have oa : oN ≠ ar := ne_cel oE AE.2.1 (fun z => by cases z)
            refine k_astore C dX3_ahead_2_122 (Nat.le_of_ble_eq_true rfl) rfl ?_
            refine k_aload_n C dX3_ahead_2_124 rfl ?_
            refine k_aload C dX3_ahead_2_125 rfl ?_
            refine kx_V C rfl mv_X3_40 dX3_ahead_2_127 ((c_push (h0 := h0) AE (by omega) SE.el oE rfl ol oa (h3.trans EE) l0 h4)) (by assumption) rfl rfl (Nat.le_of_ble_eq_true rfl) ⟨(Nat.le_of_ble_eq_true rfl), (Nat.le_of_ble_eq_true rfl)⟩ (by omega) (fun v hF hp_ => ?_) (fun _ _ hx => hx.elim)
            obtain ⟨rfl, ar', g', AF, g1', g2', EF, a0', UF⟩ := hp_
            have cE := AE.2.1
            have hS : ∀ x ∈ [l, ar], hE.2 x = none ∨ ∃ d : Cel, hE.2 x = some d ∧ ∀ (n : Nat) (y : Nat → Value), d ≠ .inr (0, n, y) := fun x hx => by
              have hx' : x = l ∨ x = ar := by simpa using hx
              rcases hx' with z | z
              · exact Or.inr ⟨_, by rw [z]; exact lE, fun n y e => (by cases e)⟩
              · exact Or.inr ⟨_, by rw [z]; exact cE, fun n y e => (by cases e)⟩
            refine k_pop C dX3_ahead_2_130 rfl ?_
            refine k_iinc C dX3_ahead_2_131 rfl rfl ?_
            refine k_goto C dX3_ahead_2_134 (tgt := 2) (by decide) ?_
            refine Wk.sub (by repeat (first | exact trivial | apply Lle.so | apply Lle.no)) (ih (i + 1) ar' _ _ hF g' (ac ++ [_]) (by omega) ?_ ?_ (by rw [len1]; exact AF) ((SE.upd UF hS).push g1' g2' (RE.upd UF hS)) EF (fun _ => a0') (fun q v e => ?_) h5)
            · rw [len1]; omega
            · rw [len1]; omega
            · have e1 := EE.2 _ _ (h16 q v e)
              exact UF.2 _ _ e1 (by simp [ne_cel e1 lE (ne_cls (by decide)), ne_cel e1 cE ne_ao])
          refine k_aload_n C dX3_ahead_2_11 rfl ?_
          refine k_getN C fn_X3_59 dX3_ahead_2_12 (by assumption) (by rfl) ?_
          refine k_iload_n C dX3_ahead_2_15 rfl ?_
          refine k_aald C dX3_ahead_2_16 (by assumption) (by rfl) (by rfl) (by omega) hf ?_
          refine k_astore C dX3_ahead_2_17 (Nat.le_of_ble_eq_true rfl) rfl ?_
          refine k_aload C dX3_ahead_2_19 rfl ?_
          refine k_ifnull C dX3_ahead_2_21 ?_
          refine k_aload C dX3_ahead_2_24 rfl ?_
          refine k_iconst C dX3_ahead_2_26 ?_
          refine k_iald C dX3_ahead_2_27 (by assumption) (by rfl) (by omega) ?_
          rw [z2]
          refine k_aload_n C dX3_ahead_2_28 rfl ?_
          refine k_iconst C dX3_ahead_2_29 ?_
          refine k_iald C dX3_ahead_2_30 (by assumption) (by rfl) (by omega) ?_
          rw [y0]
          refine k_icmp_eq C dX3_ahead_2_31 (tgt := 37) (by decide) (by omega) (fun g3 => ?_) (fun g4 => ?_)
          · refine k_aload_n C dX3_ahead_2_37 rfl ?_
            refine k_iconst C dX3_ahead_2_38 ?_
            refine k_iald C dX3_ahead_2_39 (by assumption) (by rfl) (by omega) ?_
            rw [y1]
            refine k_aload C dX3_ahead_2_40 rfl ?_
            refine k_iconst C dX3_ahead_2_42 ?_
            refine k_iald C dX3_ahead_2_43 (by assumption) (by rfl) (by omega) ?_
            rw [z1]
            refine k_isub C dX3_ahead_2_44 ?_
            rw [hP]
            refine k_istore C dX3_ahead_2_45 (Nat.le_of_ble_eq_true rfl) rfl ?_
            refine k_aload_n C dX3_ahead_2_47 rfl ?_
            refine k_iconst C dX3_ahead_2_48 ?_
            refine k_iald C dX3_ahead_2_49 (by assumption) (by rfl) (by omega) ?_
            rw [y2]
            refine k_iload C dX3_ahead_2_50 rfl ?_
            refine k_ishr C dX3_ahead_2_52 (by omega) ?_
            refine k_iconst C dX3_ahead_2_53 ?_
            refine k_iand C dX3_ahead_2_54 (bit_side b1) ?_
            rw [bitI]
            cases hM : M.testBit P with
            | false =>
              rw [hM] at k1
              refine k_iconst C dX3_ahead_2_55 ?_
              refine k_icmp_ne C dX3_ahead_2_56 (tgt := 77) (by decide) (by omega) (fun g5 => ?_) (fun g6 => ?_)
              · exact put (by unfold stepR; rw [if_neg (fun z => by
                  rcases z with z | z
                  · exact z g3
                  · rw [decide_eq_true z.1] at k1; cases k1)])
              · omega
            | true =>
              rw [hM] at k1
              have k1' := of_decide_eq_true k1.symm
              have k2' := k2 hM
              refine k_iconst C dX3_ahead_2_55 ?_
              refine k_icmp_ne C dX3_ahead_2_56 (tgt := 77) (by decide) (by omega) (fun g5 => ?_) (fun g6 => ?_)
              · omega
              · refine k_aload_n C dX3_ahead_2_59 rfl ?_
                refine k_iconst C dX3_ahead_2_60 ?_
                refine k_iald C dX3_ahead_2_61 (by assumption) (by rfl) (by omega) ?_
                rw [y3]
                refine k_iload C dX3_ahead_2_62 rfl ?_
                refine k_ishr C dX3_ahead_2_64 (by omega) ?_
                refine k_iconst C dX3_ahead_2_65 ?_
                refine k_iand C dX3_ahead_2_66 (bit_side b2) ?_
                rw [bitI, k2']
                refine k_aload C dX3_ahead_2_67 rfl ?_
                refine k_iconst C dX3_ahead_2_69 ?_
                refine k_iald C dX3_ahead_2_70 (by assumption) (by rfl) (by omega) ?_
                rw [z0]
                have k3 := kn (row.2.1 - ru.2.1)
                by_cases hz : row.2.2 (row.2.1 - ru.2.1) = 1
                · rw [decide_eq_true hz]
                  refine k_icmp_eq C dX3_ahead_2_71 (tgt := 77) (by decide) (by omega) (fun g7 => ?_) (fun g8 => ?_)
                  · exact put (by unfold stepR; rw [if_neg (fun z => by
                      rcases z with z | z
                      · exact z g3
                      · exact z.2 (by omega))])
                  · refine k_goto C dX3_ahead_2_74 (tgt := 131) (by decide) ?_
                    exact Wk.sub (by repeat (first | exact trivial | apply Lle.so | apply Lle.no)) (skip (by unfold stepR; rw [if_pos (Or.inr ⟨k1', by omega⟩)]))
                · rw [decide_eq_false hz]
                  refine k_icmp_eq C dX3_ahead_2_71 (tgt := 77) (by decide) (by omega) (fun g7 => ?_) (fun g8 => ?_)
                  · exact put (by unfold stepR; rw [if_neg (fun z => by
                      rcases z with z | z
                      · exact z g3
                      · exact z.2 (by omega))])
                  · refine k_goto C dX3_ahead_2_74 (tgt := 131) (by decide) ?_
                    exact Wk.sub (by repeat (first | exact trivial | apply Lle.so | apply Lle.no)) (skip (by unfold stepR; rw [if_pos (Or.inr ⟨k1', by omega⟩)]))
          · refine k_goto C dX3_ahead_2_34 (tgt := 131) (by decide) ?_
            exact Wk.sub (by repeat (first | exact trivial | apply Lle.so | apply Lle.no)) (skip (by unfold stepR; rw [if_pos (Or.inl g4)]))
  refine k_iconst C dX3_ahead_2_0 ?_
  refine k_istore_n C dX3_ahead_2_1 (Nat.le_of_ble_eq_true rfl) rfl ?_
  exact loop (2 * T.1) 0 ar 0 0 h f acc (by omega) (by omega) (by omega) A S E0 a0 (fun _ _ e => e) hres
/-- the room of the rows ahead, m of them -/
def mhC (m : Nat) : Nat := 2 + m + payC m
def mhS (m : Nat) : Nat := 7 + 4 * m + payS m
theorem c_mAhead {w : Wd} {h : Hp} {md cs l0 ar1 cap0 : Nat} {T : Tb} {kv av bv : Int} {rows : List Rw} {f0 : Int → Option Nat} (G : isMd h md cs T kv av bv) (hT : TbOk T) (A : isAL w h l0 ar1 rows.length cap0 f0) (R : isRms h rows f0) (hl : rows.length ≤ 24) (hr : ∀ r ∈ rows, RwOk T 5 r) : Ct w yX3_ahead (ws_ yX3_ahead cX3_ahead 5 (some (FieldType.object "java/util/ArrayList"))) 9 237 (mhC (ahR T rows []).length) (mhS (ahR T rows []).length) [.ref md, .ref l0] h (fun v h' => ∃ l ar f, v = some (.ref l) ∧ isAL w h' l ar (ahR T rows []).length (capOf (ahR T rows []).length) f ∧ isRms h' (ahR T rows []) f ∧ Ext h h') NoX := by
  have hbig := ahR_len hT hl
  generalize hres : ahR T rows [] = res at *
  have hC : mhC res.length = 2 + res.length + payC res.length := rfl
  have hS : mhS res.length = 7 + 4 * res.length + payS res.length := rfl
  have A1 := A.1
  refine Ct.of (by decide) [some (.ref md), some (.ref l0), none, none, none] rfl (Nat.le_of_ble_eq_true rfl) (fun K C E N0 => ?_)
  refine k_new C nw_X3_7 dX3_ahead_0 (by omega) (fun l h1 N1 => ?_)
  have l1 := N1.2.1
  refine k_dup C dX3_ahead_3 rfl ?_
  refine kx_I C rfl mi_X3_9 dX3_ahead_4 ((c_alInit l1)) rfl rfl (Nat.le_of_ble_eq_true rfl) ⟨(Nat.le_of_ble_eq_true rfl), (Nat.le_of_ble_eq_true rfl)⟩ (by omega) (fun v h2 hp_ => ?_) (fun _ _ hx => hx.elim)
  obtain ⟨rfl, P2⟩ := hp_
  have l2 := P2.2.1
  have E2 : Ext h h2 := P2.upd.ext0 N1.2.2.1 (by simpa using N1.1)
  have l02 := E2.2 _ _ A1
  refine k_astore_n C dX3_ahead_7 (Nat.le_of_ble_eq_true rfl) rfl ?_
  refine k_aload_n C dX3_ahead_8 rfl ?_
  refine kx_V C rfl mv_X3_158 dX3_ahead_9 ((c_iterator l02)) (by assumption) rfl rfl (Nat.le_of_ble_eq_true rfl) ⟨(Nat.le_of_ble_eq_true rfl), (Nat.le_of_ble_eq_true rfl)⟩ (by omega) (fun v h3 hp_ => ?_) (fun _ _ hx => hx.elim)
  obtain ⟨it, rfl, N3⟩ := hp_
  have E3 := E2.trans N3.2.2.1
  have it0 : h.2 it = none := E2.old N3.1
  refine k_astore_n C dX3_ahead_12 (Nat.le_of_ble_eq_true rfl) rfl ?_
  have outer : ∀ (rs : List Rw) (r ar n k : Nat) (hh : Hp) (f : Int → Option Nat) (acc : List Rw) (v1 : Value), rows.drop r = rs → n = 2 + acc.length + payC acc.length → k = 7 + 4 * acc.length + payS acc.length → isAL w hh l ar acc.length (capOf acc.length) f → isRms hh acc f → Ext h hh → (0 < acc.length → h.2 ar = none) → hh.2 it = some (.inl (16, [jI (r : Nat), v1, jI (rows.length : Nat), .ref l0])) → ahR T rs acc = res → r ≤ rows.length → Wk w K hh n k 13 [some (.ref md), some (.ref l0), some (.ref l), some (.ref it), none] [] := by
    intro rs
    induction rs with
    | nil =>
      intro r ar n k hh f acc v1 hd hn hk h1 h2 h3 h4 hi h5 h6
      have hr' := drop_nil hd
      have A2 := h3.2 _ _ A1
      have e : acc = res := h5
      subst e
      refine k_aload_n C dX3_ahead_13 rfl ?_
      refine kx_F C rfl mf_X3_162 dX3_ahead_14 ((c_hasNext (i := r) (n := rows.length) (by omega) hi A2)) (by assumption) rfl rfl (Nat.le_of_ble_eq_true rfl) ⟨(Nat.le_of_ble_eq_true rfl), (Nat.le_of_ble_eq_true rfl)⟩ (by omega) (fun v kk hp_ => ?_) (fun _ _ hx => hx.elim)
      obtain ⟨rfl, rfl⟩ := hp_
      rw [decide_eq_false (show ¬ r < rows.length by omega)]
      refine k_ifeq_b C dX3_ahead_19 (tgt := 43) (by decide) (fun _ => ?_) (fun z => by cases z)
      refine k_aload_n C dX3_ahead_43 rfl ?_
      exact k_aret C (Or.inl ⟨_, rfl⟩) E dX3_ahead_44 (by omega) ⟨l, ar, f, rfl, h1, h2, h3⟩
    | cons row rs ih =>
      intro r ar n k hh f acc v1 hd hn hk h1 h2 h3 h4 hi h5 h6
      obtain ⟨hrow, hd2, hlt⟩ := drop_cons hd
      have A2 := h3.2 _ _ A1
      have hok := hr row (List.mem_of_getElem? hrow)
      obtain ⟨o, fr, Rr⟩ := R r row hrow
      have la := (colK_b (f := cellRow T row) (2 * T.1) 0 acc).1
      have lb := (ahR_b (T := T) rs (colK (cellRow T row) (2 * T.1) 0 acc)).1
      rw [show ahR T rs (colK (cellRow T row) (2 * T.1) 0 acc) = res from h5] at lb
      have pc := payC_le la
      have ps := payS_le la
      have pc1 := payC_le lb
      have ps1 := payS_le lb
      refine k_aload_n C dX3_ahead_13 rfl ?_
      refine kx_F C rfl mf_X3_162 dX3_ahead_14 ((c_hasNext (i := r) (n := rows.length) (by omega) hi A2)) (by assumption) rfl rfl (Nat.le_of_ble_eq_true rfl) ⟨(Nat.le_of_ble_eq_true rfl), (Nat.le_of_ble_eq_true rfl)⟩ (by omega) (fun v kk hp_ => ?_) (fun _ _ hx => hx.elim)
      obtain ⟨rfl, rfl⟩ := hp_
      rw [decide_eq_true hlt]
      refine k_ifeq_b C dX3_ahead_19 (tgt := 43) (by decide) (fun z => by cases z) (fun _ => ?_)
      refine k_aload_n C dX3_ahead_22 rfl ?_
      refine kx_F C rfl mf_X3_167 dX3_ahead_23 ((c_next (A.ext h3) (i := r) hlt fr hi)) (by assumption) rfl rfl (Nat.le_of_ble_eq_true rfl) ⟨(Nat.le_of_ble_eq_true rfl), (Nat.le_of_ble_eq_true rfl)⟩ (by omega) (fun v g1 hp_ => ?_) (fun _ _ hx => hx.elim)
      obtain ⟨rfl, P1⟩ := hp_
      have E1 : Ext h g1 := P1.upd.ext0 h3 (by simpa using it0)
      obtain ⟨gg, MM, BB, ro, -⟩ := id Rr
      have ro1 := E1.2 _ _ ro
      have L1 : isAL w g1 l ar acc.length (capOf acc.length) f := h1.upd P1.upd (by simp [ne_cel h1.1 hi (ne_cls (by decide))]) (by simp [ne_cel h1.2.1 hi ne_oa])
      have S1 : isRms g1 acc f := h2.upd P1.upd (fun x hx => by
        rw [show x = it by simpa using hx]
        exact Or.inr ⟨_, hi, fun n y e => (by cases e)⟩)
      refine k_castA C q1421 rfl rfl dX3_ahead_28 (by assumption) ?_
      refine k_astore C dX3_ahead_31 (Nat.le_of_ble_eq_true rfl) rfl ?_
      refine k_aload_n C dX3_ahead_33 rfl ?_
      refine k_aload C dX3_ahead_34 rfl ?_
      refine k_aload_n C dX3_ahead_36 rfl ?_
      refine kx_S C rfl ms_X3_170 dX3_ahead_37 ((c_mAhead2 (h0 := h) G hT Rr hok L1 S1 E1 N1.1 h4 (by omega))) rfl rfl (Nat.le_of_ble_eq_true rfl) ⟨(Nat.le_of_ble_eq_true rfl), (Nat.le_of_ble_eq_true rfl)⟩ (by omega) (fun v g2 hp_ => ?_) (fun _ _ hx => hx.elim)
      obtain ⟨rfl, ar', f', L2, S2, E2', a2, K16⟩ := hp_
      have it2 := K16 _ _ P1.2.1
      refine k_goto C dX3_ahead_40 (tgt := 13) (by decide) ?_
      exact Wk.sub (by repeat (first | exact trivial | apply Lle.so | apply Lle.no)) (ih (r + 1) ar' _ _ g2 f' _ _ hd2 (by omega) (by omega) L2 S2 E2' a2 it2 h5 (by omega))
  refine Wk.wf fun _ _ _ hc => ?_
  have l3 : h3.2 l = some (.inl (14, [jI 0, .ref (w.ad 5), jI 0])) := N3.2.2.1.2 _ _ l2
  exact outer rows 0 (w.ad 5) _ _ h3 (fun _ => none) [] _ rfl rfl rfl ⟨l3, hc.2.2.2.2.2.1, Nat.le_refl _, by decide, fun _ => rfl⟩ (fun k r e => by simp at e) E3 (fun z => absurd z (by decide)) N3.2.1 hres (by omega)
