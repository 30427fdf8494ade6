/-! ===== the component's checksum ===== -/
set_option maxRecDepth 100000
theorem c_suInit {w : Wd} {h : Hp} {su : Nat} {s v : Int64} (hs : h.2 su = some (.inl (13, [.long s]))) : Ct w yX14_init (ws_ yX14_init cX14_init 3 none) 1 40 0 0 [.ref su, .long v] h (fun r h' => r = none ∧ Put h h' su (.inl (13, [.long v]))) NoX := by
  refine Ct.of (by decide) [some (.ref su), some (.long v), none] rfl (Nat.le_of_ble_eq_true rfl) (fun K C E N0 => ?_)
  refine k_aload_n C dX14_init_0 rfl ?_
  refine k_objinit C rfl q193 q72 qobj dX14_init_1 ⟨(Nat.le_of_ble_eq_true rfl), (Nat.le_of_ble_eq_true rfl)⟩ ?_
  refine k_aload_n C dX14_init_4 rfl ?_
  refine k_lload_n C dX14_init_5 rfl ?_
  refine k_put C fg_X14_7 ft_13_0 dX14_init_6 (by assumption) rfl rfl rfl (fun h1 P1 => ?_)
  exact k_vret C E dX14_init_9 (by omega) ⟨rfl, P1⟩
theorem c_suAdd {w : Wd} {h : Hp} {su : Nat} {s : Int64} {v : Int} (hs : h.2 su = some (.inl (13, [.long s]))) : Ct w yX14_add (ws_ yX14_add cX14_add 4 (some FieldType.long)) 0 0 0 0 [.ref su, jI v] h (fun r h' => r = some (.long (mixS s v)) ∧ Put h h' su (.inl (13, [.long (mixS s v)]))) NoX := by
  refine Ct.of (by decide) [some (.ref su), some (jI v), none, none] rfl (Nat.le_of_ble_eq_true rfl) (fun K C E N0 => ?_)
  refine k_aload_n C dX14_add_0 rfl ?_
  refine k_aload_n C dX14_add_1 rfl ?_
  refine k_get C fg_X14_7 dX14_add_2 (by assumption) (by rfl) ?_
  refine k_ldc2 C q308 dX14_add_5 ?_
  refine k_lmul C dX14_add_8 ?_
  refine k_iload_n C dX14_add_9 rfl ?_
  refine k_i2l C dX14_add_10 ?_
  refine k_ladd C dX14_add_11 ?_
  refine k_dup2_x1 C dX14_add_12 rfl rfl ?_
  refine k_put C fg_X14_7 ft_13_0 dX14_add_13 (by assumption) rfl rfl rfl (fun h1 P1 => ?_)
  refine k_lstore_n C dX14_add_16 (Nat.le_of_ble_eq_true rfl) rfl ?_
  refine k_lload_n C dX14_add_17 rfl ?_
  exact k_lret C E dX14_add_18 (by omega) ⟨rfl, P1⟩
theorem isWk.su {h h' : Hp} {q t tp R su : Nat} {c : Cf} {s s' : Int64} (hs : h.2 su = some (.inl (13, [.long s]))) (P : Put h h' su (.inl (13, [.long s']))) (W : isWk h q t tp R c) : isWk h' q t tp R c := ⟨P.2.2 _ _ W.1 (ne_cel W.1 hs (ne_cls (by decide))), P.2.2 _ _ W.2 (ne_cel W.2 hs ne_oa)⟩
theorem isMc.su {w : Wd} {h h' : Hp} {a t lst ar su : Nat} {m : Mch} {s : Int64} {c : Cel} (hs : h.2 su = some (.inl (13, [.long s]))) (P : Put h h' su c) (H : isMc w h a t lst ar m) : isMc w h' a t lst ar m := by
  have oo : ∀ (q c : Nat) (v : List Value), h.2 q = some (.inl (c, v)) → c ≠ 13 → h'.2 q = some (.inl (c, v)) := fun q c v e hc => P.2.2 _ _ e (ne_cel e hs (ne_cls hc))
  have aa : ∀ (q : Nat) (v : Nat × Nat × (Nat → Value)), h.2 q = some (.inr v) → h'.2 q = some (.inr v) := fun q v e => P.2.2 _ _ e (ne_cel e hs ne_oa)
  obtain ⟨⟨k, e1, e2⟩, g1, f, ⟨g2, g3, g4⟩, g5⟩ := H
  refine ⟨⟨k, oo _ _ _ e1 (by decide), oo _ _ _ e2 (by decide)⟩, oo _ _ _ g1 (by decide), f, ⟨oo _ _ _ g2 (by decide), aa _ _ g3, g4⟩, fun j j0 j1 => ?_⟩
  obtain ⟨o, e3, e4⟩ := g5 j j0 j1
  refine ⟨o, e3, ?_⟩
  cases hr : m.1.2 j with
  | none => rw [hr] at e4; exact oo _ _ _ e4 (by decide)
  | some r =>
    rw [hr] at e4
    obtain ⟨b, e5, e6⟩ := e4
    exact ⟨b, oo _ _ _ e5 (by decide), oo _ _ _ e6 (by decide)⟩
theorem lk8 : lkC 8 ≤ 60 ∧ lkS 8 ≤ 700 := by decide +kernel
theorem c_mixM {w : Wd} {h : Hp} {a t lst ar su : Nat} {mc : Mch} {s : Int64} (M : isMc w h a t lst ar mc) (mok : MchOk mc) (hs : h.2 su = some (.inl (13, [.long s]))) : Ct w yX1_mixMachine (ws_ yX1_mixMachine cX1_mixMachine 5 none) 11 281 1055 9040 [.ref su, .ref a] h (fun r h' => r = none ∧ h'.2 su = some (.inl (13, [.long (mixMc mc s)])) ∧ Upd h h' [su]) NoX := by
  have hT2 := mok.1.2.1
  have r5 := runN_c0 mok.1 500
  have r4 := runN_c0 mok.1 40
  have l8 := lk8
  refine Ct.of (by decide) [some (.ref su), some (.ref a), none, none, none] rfl (Nat.le_of_ble_eq_true rfl) (fun K C E N0 => ?_)
  generalize hD : mixMc mc s = D at *
  unfold mixMc at hD
  generalize hq1 : mixN (fun w => machC mc (runN mc.1 500 c0) (w : Nat)) 9 s = q1 at *
  generalize hq2 : mixC mc.1 (2 * mc.1.1) q1 = q2 at *
  generalize hq3 : mixN (fun w => atC (runN mc.1 40 c0) (w : Nat)) 8 q2 = q3 at *
  have p123 : ∀ (hx : Hp), isMc w hx a t lst ar mc → hx.2 su = some (.inl (13, [.long q3])) → Upd h hx [su] → Wk w K hx 4 1098 123 [some (.ref su), some (.ref a), none, none, none] [] := by
    intro hx M hs U
    obtain ⟨⟨k0, ea, -⟩, G⟩ := id M
    refine k_aload_n C dX1_mixMachine_123 rfl ?_
    refine k_aload_n C dX1_mixMachine_124 rfl ?_
    refine k_getN C fn_X1_166 dX1_mixMachine_125 (by assumption) (by rfl) ?_
    refine k_bipush C dX1_mixMachine_128 (by decide) ?_
    refine kx_S C rfl ms_X1_294 dX1_mixMachine_130 ((c_cycleNow (b := 8) G mok.1 (by omega))) rfl rfl (Nat.le_of_ble_eq_true rfl) ⟨(Nat.le_of_ble_eq_true rfl), (Nat.le_of_ble_eq_true rfl)⟩ (by omega) (fun v h2 hp_ => ?_) (fun _ _ hx => hx.elim)
    obtain ⟨rfl, E2⟩ := hp_
    have s2 := E2.2 _ _ hs
    refine kx_V C rfl mv_X1_410 dX1_mixMachine_133 ((c_suAdd s2)) (by assumption) rfl rfl (Nat.le_of_ble_eq_true rfl) ⟨(Nat.le_of_ble_eq_true rfl), (Nat.le_of_ble_eq_true rfl)⟩ (by omega) (fun v h3 hp_ => ?_) (fun _ _ hx => hx.elim)
    obtain ⟨rfl, P3⟩ := hp_
    have M3 := (M.ext E2).su s2 P3
    obtain ⟨⟨k3, ea3, -⟩, G3⟩ := id M3
    have s3 := P3.2.1
    refine k_pop2 C dX1_mixMachine_136 rfl ?_
    refine k_aload_n C dX1_mixMachine_137 rfl ?_
    refine k_aload_n C dX1_mixMachine_138 rfl ?_
    refine k_getN C fn_X1_166 dX1_mixMachine_139 (by assumption) (by rfl) ?_
    refine kx_S C rfl ms_X1_298 dX1_mixMachine_142 ((c_backNow G3 mok.1)) rfl rfl (Nat.le_of_ble_eq_true rfl) ⟨(Nat.le_of_ble_eq_true rfl), (Nat.le_of_ble_eq_true rfl)⟩ (by omega) (fun v h4 hp_ => ?_) (fun _ _ hx => hx.elim)
    obtain ⟨rfl, E4⟩ := hp_
    have s4 := E4.2 _ _ s3
    refine kx_V C rfl mv_X1_410 dX1_mixMachine_145 ((c_suAdd s4)) (by assumption) rfl rfl (Nat.le_of_ble_eq_true rfl) ⟨(Nat.le_of_ble_eq_true rfl), (Nat.le_of_ble_eq_true rfl)⟩ (by omega) (fun v h5 hp_ => ?_) (fun _ _ hx => hx.elim)
    obtain ⟨rfl, P5⟩ := hp_
    refine k_pop2 C dX1_mixMachine_148 rfl ?_
    exact k_vret C E dX1_mixMachine_149 (by omega) ⟨rfl, by rw [← hD]; exact P5.2.1, (((U.trans (E2.upd [su]) (fun x hx => Or.inl hx)).trans P3.upd (fun x hx => Or.inl hx)).trans (E4.upd [su]) (fun x hx => Or.inl hx)).trans P5.upd (fun x hx => Or.inl hx)⟩
  have p99 : ∀ (d w' : Nat) (q tp : Nat) (hx : Hp), w' + d = 8 → isMc w hx a t lst ar mc → isWk hx q t tp 40 (runN mc.1 40 c0) → hx.2 su = some (.inl (13, [.long (mixN (fun w => atC (runN mc.1 40 c0) (w : Nat)) w' q2)])) → Upd h hx [su] → Wk w K hx 4 1098 99 [some (.ref su), some (.ref a), none, some (.ref q), some (jI (w' : Nat))] [] := by
    intro d
    induction d with
    | zero =>
      intro w' q tp hx hw M W hs U
      have hw' : w' = 8 := by omega
      subst hw'
      rw [hq3] at hs
      refine k_iload C dX1_mixMachine_99 rfl ?_
      refine k_bipush C dX1_mixMachine_101 (by decide) ?_
      refine k_icmp_gt C dX1_mixMachine_103 (tgt := 123) (by decide) (by omega) (fun g1 => ?_) (fun g2 => ?_)
      · exact Wk.sub (by repeat (first | exact trivial | apply Lle.so | apply Lle.no)) (p123 hx M hs U)
      · omega
    | succ d ih =>
      intro w' q tp hx hw M W hs U
      have W1 := W.1
      refine k_iload C dX1_mixMachine_99 rfl ?_
      refine k_bipush C dX1_mixMachine_101 (by decide) ?_
      refine k_icmp_gt C dX1_mixMachine_103 (tgt := 123) (by decide) (by omega) (fun g1 => ?_) (fun g2 => ?_)
      · omega
      · refine k_aload_n C dX1_mixMachine_106 rfl ?_
        refine k_aload_n C dX1_mixMachine_107 rfl ?_
        refine k_iload C dX1_mixMachine_108 rfl ?_
        refine kx_S C rfl ms_X1_361 dX1_mixMachine_110 ((c_atNow (what := (w' : Nat)) (by omega) (by omega) W r4.1 r4.2 (slim_c0 mok.1 (by omega)))) rfl rfl (Nat.le_of_ble_eq_true rfl) ⟨(Nat.le_of_ble_eq_true rfl), (Nat.le_of_ble_eq_true rfl)⟩ (by omega) (fun v h2 hp_ => ?_) (fun _ _ hx => hx.elim)
        obtain ⟨rfl, rfl⟩ := hp_
        refine kx_V C rfl mv_X1_410 dX1_mixMachine_113 ((c_suAdd hs)) (by assumption) rfl rfl (Nat.le_of_ble_eq_true rfl) ⟨(Nat.le_of_ble_eq_true rfl), (Nat.le_of_ble_eq_true rfl)⟩ (by omega) (fun v h3 hp_ => ?_) (fun _ _ hx => hx.elim)
        obtain ⟨rfl, P3⟩ := hp_
        refine k_pop2 C dX1_mixMachine_116 rfl ?_
        refine k_iinc C dX1_mixMachine_117 rfl rfl ?_
        refine k_goto C dX1_mixMachine_120 (tgt := 99) (by decide) ?_
        exact ih (w' + 1) q tp h3 (by omega) (M.su hs P3) (W.su hs P3) P3.2.1 (U.trans P3.upd (fun x hx => Or.inl hx))
  have p35 : ∀ (d k' : Nat) (hx : Hp), k' + d = 2 * mc.1.1 → isMc w hx a t lst ar mc → hx.2 su = some (.inl (13, [.long (mixC mc.1 k' q1)])) → Upd h hx [su] → Wk w K hx 2 1009 35 [some (.ref su), some (.ref a), none, some (jI (k' : Nat)), none] [] := by
    intro d
    induction d with
    | zero =>
      intro k' hx hk M hs U
      have hk' : k' = 2 * mc.1.1 := by omega
      subst hk'
      rw [hq2] at hs
      obtain ⟨⟨k0, ea, -⟩, G⟩ := id M
      have G1 := G.1
      refine k_iload_n C dX1_mixMachine_35 rfl ?_
      refine k_iconst C dX1_mixMachine_36 ?_
      refine k_aload_n C dX1_mixMachine_37 rfl ?_
      refine k_getN C fn_X1_166 dX1_mixMachine_38 (by assumption) (by rfl) ?_
      refine k_getN C fn_X1_73 dX1_mixMachine_41 (by assumption) (by rfl) ?_
      refine k_imul C dX1_mixMachine_44 ?_
      refine k_icmp_ge C dX1_mixMachine_45 (tgt := 89) (by decide) (by omega) (fun g1 => ?_) (fun g2 => ?_)
      · refine k_aload_n C dX1_mixMachine_89 rfl ?_
        refine k_bipush C dX1_mixMachine_90 (by decide) ?_
        refine kx_S C rfl ms_X1_222 dX1_mixMachine_92 ((c_walked (R := 40) M mok (by omega))) rfl rfl (Nat.le_of_ble_eq_true rfl) ⟨(Nat.le_of_ble_eq_true rfl), (Nat.le_of_ble_eq_true rfl)⟩ (by omega) (fun v h2 hp_ => ?_) (fun _ _ hx => hx.elim)
        obtain ⟨q, tp, rfl, q0, tp0, W2, E2⟩ := hp_
        refine k_astore_n C dX1_mixMachine_95 (Nat.le_of_ble_eq_true rfl) rfl ?_
        refine k_iconst C dX1_mixMachine_96 ?_
        refine k_istore C dX1_mixMachine_97 (Nat.le_of_ble_eq_true rfl) rfl ?_
        exact Wk.sub (by repeat (first | exact trivial | apply Lle.so | apply Lle.no)) (p99 8 0 q tp h2 (by omega) (M.ext E2) W2 (E2.2 _ _ hs) (U.trans (E2.upd [su]) (fun x hx => Or.inl hx)))
      · omega
    | succ d ihk =>
      intro k' hx hk M hs U
      have hck : mixC mc.1 (k' + 1) q1 = mixN (fun w => cellC mc.1 (k' : Nat) (w : Nat)) 3 (mixC mc.1 k' q1) := rfl
      generalize mixC mc.1 k' q1 = u0 at *
      obtain ⟨⟨k0, ea, -⟩, G⟩ := id M
      have G1 := G.1
      refine k_iload_n C dX1_mixMachine_35 rfl ?_
      refine k_iconst C dX1_mixMachine_36 ?_
      refine k_aload_n C dX1_mixMachine_37 rfl ?_
      refine k_getN C fn_X1_166 dX1_mixMachine_38 (by assumption) (by rfl) ?_
      refine k_getN C fn_X1_73 dX1_mixMachine_41 (by assumption) (by rfl) ?_
      refine k_imul C dX1_mixMachine_44 ?_
      refine k_icmp_ge C dX1_mixMachine_45 (tgt := 89) (by decide) (by omega) (fun g1 => ?_) (fun g2 => ?_)
      · omega
      · have p51 : ∀ (d w' : Nat) (hy : Hp), w' + d = 3 → isMc w hy a t lst ar mc → hy.2 su = some (.inl (13, [.long (mixN (fun w => cellC mc.1 (k' : Nat) (w : Nat)) w' u0)])) → Upd h hy [su] → Wk w K hy 2 1009 51 [some (.ref su), some (.ref a), none, some (jI (k' : Nat)), some (jI (w' : Nat))] [] := by
          intro d
          induction d with
          | zero =>
            intro w' hy hw M hs U
            have hw' : w' = 3 := by omega
            subst hw'
            rw [← hck] at hs
            refine k_iload C dX1_mixMachine_51 rfl ?_
            refine k_iconst C dX1_mixMachine_53 ?_
            refine k_icmp_gt C dX1_mixMachine_54 (tgt := 83) (by decide) (by omega) (fun g3 => ?_) (fun g4 => ?_)
            · refine k_iinc C dX1_mixMachine_83 rfl rfl ?_
              refine k_goto C dX1_mixMachine_86 (tgt := 35) (by decide) ?_
              exact Wk.sub (by repeat (first | exact trivial | apply Lle.so | apply Lle.no)) (ihk (k' + 1) hy (by omega) M hs U)
            · omega
          | succ d ihw =>
            intro w' hy hw M hs U
            obtain ⟨⟨k0, ea, -⟩, G⟩ := id M
            have G1 := G.1
            refine k_iload C dX1_mixMachine_51 rfl ?_
            refine k_iconst C dX1_mixMachine_53 ?_
            refine k_icmp_gt C dX1_mixMachine_54 (tgt := 83) (by decide) (by omega) (fun g3 => ?_) (fun g4 => ?_)
            · omega
            · refine k_aload_n C dX1_mixMachine_57 rfl ?_
              refine k_aload_n C dX1_mixMachine_58 rfl ?_
              refine k_getN C fn_X1_166 dX1_mixMachine_59 (by assumption) (by rfl) ?_
              refine k_iload_n C dX1_mixMachine_62 rfl ?_
              refine k_iconst C dX1_mixMachine_63 ?_
              refine k_idiv C dX1_mixMachine_64 (by omega) ?_
              refine k_iload_n C dX1_mixMachine_65 rfl ?_
              refine k_iconst C dX1_mixMachine_66 ?_
              refine k_irem C dX1_mixMachine_67 (by omega) ?_
              refine k_iload C dX1_mixMachine_68 rfl ?_
              refine kx_S C rfl ms_X1_324 dX1_mixMachine_70 ((c_cellNow (s := (k' : Int) / 2) (b := (k' : Int) % 2) (what := (w' : Nat)) G mok.1 (by omega) (by omega) (by omega))) rfl rfl (Nat.le_of_ble_eq_true rfl) ⟨(Nat.le_of_ble_eq_true rfl), (Nat.le_of_ble_eq_true rfl)⟩ (by omega) (fun v h2 hp_ => ?_) (fun _ _ hx => hx.elim)
              obtain ⟨rfl, rfl⟩ := hp_
              rw [show 2 * ((k' : Int) / 2) + (k' : Int) % 2 = k' by omega]
              refine kx_V C rfl mv_X1_410 dX1_mixMachine_73 ((c_suAdd hs)) (by assumption) rfl rfl (Nat.le_of_ble_eq_true rfl) ⟨(Nat.le_of_ble_eq_true rfl), (Nat.le_of_ble_eq_true rfl)⟩ (by omega) (fun v h3 hp_ => ?_) (fun _ _ hx => hx.elim)
              obtain ⟨rfl, P3⟩ := hp_
              refine k_pop2 C dX1_mixMachine_76 rfl ?_
              refine k_iinc C dX1_mixMachine_77 rfl rfl ?_
              refine k_goto C dX1_mixMachine_80 (tgt := 51) (by decide) ?_
              exact ihw (w' + 1) h3 (by omega) (M.su hs P3) P3.2.1 (U.trans P3.upd (fun x hx => Or.inl hx))
        refine k_iconst C dX1_mixMachine_48 ?_
        refine k_istore C dX1_mixMachine_49 (Nat.le_of_ble_eq_true rfl) rfl ?_
        exact p51 3 0 hx (by omega) M hs U
  have p10 : ∀ (d w' : Nat) (q tp : Nat) (hx : Hp), w' + d = 9 → isMc w hx a t lst ar mc → isWk hx q t tp 500 (runN mc.1 500 c0) → hx.2 su = some (.inl (13, [.long (mixN (fun w => machC mc (runN mc.1 500 c0) (w : Nat)) w' s)])) → Upd h hx [su] → Wk w K hx 2 1009 10 [some (.ref su), some (.ref a), some (.ref q), some (jI (w' : Nat)), none] [] := by
    intro d
    induction d with
    | zero =>
      intro w' q tp hx hw M W hs U
      have hw' : w' = 9 := by omega
      subst hw'
      rw [hq1] at hs
      refine k_iload_n C dX1_mixMachine_10 rfl ?_
      refine k_bipush C dX1_mixMachine_11 (by decide) ?_
      refine k_icmp_gt C dX1_mixMachine_13 (tgt := 33) (by decide) (by omega) (fun g1 => ?_) (fun g2 => ?_)
      · refine k_iconst C dX1_mixMachine_33 ?_
        refine k_istore_n C dX1_mixMachine_34 (Nat.le_of_ble_eq_true rfl) rfl ?_
        exact Wk.sub (by repeat (first | exact trivial | apply Lle.so | apply Lle.no)) (p35 (2 * mc.1.1) 0 hx (by omega) M hs U)
      · omega
    | succ d ih =>
      intro w' q tp hx hw M W hs U
      obtain ⟨⟨k0, ea, -⟩, G⟩ := id M
      have W1 := W.1
      refine k_iload_n C dX1_mixMachine_10 rfl ?_
      refine k_bipush C dX1_mixMachine_11 (by decide) ?_
      refine k_icmp_gt C dX1_mixMachine_13 (tgt := 33) (by decide) (by omega) (fun g1 => ?_) (fun g2 => ?_)
      · omega
      · refine k_aload_n C dX1_mixMachine_16 rfl ?_
        refine k_aload_n C dX1_mixMachine_17 rfl ?_
        refine k_aload_n C dX1_mixMachine_18 rfl ?_
        refine k_iload_n C dX1_mixMachine_19 rfl ?_
        refine kx_S C rfl ms_X1_344 dX1_mixMachine_20 ((c_machineNow (what := (w' : Nat)) (by omega) (by omega) M mok W r5.1 r5.2)) rfl rfl (Nat.le_of_ble_eq_true rfl) ⟨(Nat.le_of_ble_eq_true rfl), (Nat.le_of_ble_eq_true rfl)⟩ (by omega) (fun v h2 hp_ => ?_) (fun _ _ hx => hx.elim)
        obtain ⟨rfl, rfl⟩ := hp_
        refine kx_V C rfl mv_X1_410 dX1_mixMachine_23 ((c_suAdd hs)) (by assumption) rfl rfl (Nat.le_of_ble_eq_true rfl) ⟨(Nat.le_of_ble_eq_true rfl), (Nat.le_of_ble_eq_true rfl)⟩ (by omega) (fun v h3 hp_ => ?_) (fun _ _ hx => hx.elim)
        obtain ⟨rfl, P3⟩ := hp_
        refine k_pop2 C dX1_mixMachine_26 rfl ?_
        refine k_iinc C dX1_mixMachine_27 rfl rfl ?_
        refine k_goto C dX1_mixMachine_30 (tgt := 10) (by decide) ?_
        exact ih (w' + 1) q tp h3 (by omega) (M.su hs P3) (W.su hs P3) P3.2.1 (U.trans P3.upd (fun x hx => Or.inl hx))
  refine k_aload_n C dX1_mixMachine_0 rfl ?_
  refine k_sipush C dX1_mixMachine_1 (by decide) ?_
  refine kx_S C rfl ms_X1_222 dX1_mixMachine_4 ((c_walked (R := 500) M mok (by omega))) rfl rfl (Nat.le_of_ble_eq_true rfl) ⟨(Nat.le_of_ble_eq_true rfl), (Nat.le_of_ble_eq_true rfl)⟩ (by omega) (fun v h2 hp_ => ?_) (fun _ _ hx => hx.elim)
  obtain ⟨q, tp, rfl, q0, tp0, W2, E2⟩ := hp_
  refine k_astore_n C dX1_mixMachine_7 (Nat.le_of_ble_eq_true rfl) rfl ?_
  refine k_iconst C dX1_mixMachine_8 ?_
  refine k_istore_n C dX1_mixMachine_9 (Nat.le_of_ble_eq_true rfl) rfl ?_
  exact Wk.sub (by repeat (first | exact trivial | apply Lle.so | apply Lle.no)) (p10 9 0 q tp h2 (by omega) (M.ext E2) W2 (E2.2 _ _ hs) (E2.upd [su]))
theorem c_digestX {w : Wd} {h : Hp} {x : Nat} {X : XL} {σ : Sg} (H : isX w h x X σ) (hσ : SgOk σ) : Ct w yX1_digest (ws_ yX1_digest cX1_digest 3 (some FieldType.long)) 12 305 (12 + 1059 * σ.n) (67 + 11058 * σ.n) [.ref x] h (fun r h' => r = some (.long (digC σ)) ∧ Ext h h') NoX := by
  have hX := H.1
  have hn := hσ.1
  have hk4 := hσ.2.1
  refine Ct.of (by decide) [some (.ref x), none, none] rfl (Nat.le_of_ble_eq_true rfl) (fun K C E N0 => ?_)
  generalize hdig : digC σ = D at *
  unfold digC at hdig
  generalize hs1 : mixN (fun w => manyC σ (w : Nat)) 11 58237 = s1 at *
  generalize hs2 : mixMs σ σ.n s1 = s2 at *
  generalize hs3 : mixN (fun t => tagR (σ.tg t) 9 10) σ.k s2 = s3 at *
  refine k_new C nw_X1_411 dX1_digest_0 (by omega) (fun su h1 N1 => ?_)
  have n1 : h1.2 su = some (.inl (13, [.long 0])) := N1.2.1
  refine k_dup C dX1_digest_3 rfl ?_
  refine k_ldc2 C q189 dX1_digest_4 ?_
  refine kx_I C rfl mi_X1_417 dX1_digest_7 ((c_suInit n1)) rfl rfl (Nat.le_of_ble_eq_true rfl) ⟨(Nat.le_of_ble_eq_true rfl), (Nat.le_of_ble_eq_true rfl)⟩ (by omega) (fun v h2 hp_ => ?_) (fun _ _ hx => hx.elim)
  obtain ⟨rfl, P2⟩ := hp_
  have E2 := (N1.put P2).2.2.1
  have su0 : h.2 su = none := N1.1
  have p119 : ∀ hh : Hp, Ext h hh → hh.2 su = some (.inl (13, [.long s3])) → Wk w K hh (12 + 1055 * σ.n) (67 + 9040 * σ.n) 119 [some (.ref x), some (.ref su), none] [] := by
    intro hh E0 hs
    have x0 := E0.2 _ _ hX
    refine k_aload_n C dX1_digest_119 rfl ?_
    refine k_aload_n C dX1_digest_120 rfl ?_
    refine k_iconst C dX1_digest_121 ?_
    refine kx_V C rfl mv_X1_382 dX1_digest_122 ((c_championNow (H.ext E0) hσ (by decide))) (by assumption) rfl rfl (Nat.le_of_ble_eq_true rfl) ⟨(Nat.le_of_ble_eq_true rfl), (Nat.le_of_ble_eq_true rfl)⟩ (by omega) (fun v h3 hp_ => ?_) (fun _ _ hx => hx.elim)
    obtain ⟨rfl, E3⟩ := hp_
    have s4 := E3.2 _ _ hs
    refine kx_V C rfl mv_X1_410 dX1_digest_125 ((c_suAdd s4)) (by assumption) rfl rfl (Nat.le_of_ble_eq_true rfl) ⟨(Nat.le_of_ble_eq_true rfl), (Nat.le_of_ble_eq_true rfl)⟩ (by omega) (fun v h4 hp_ => ?_) (fun _ _ hx => hx.elim)
    obtain ⟨rfl, P4⟩ := hp_
    have E4 : Ext h h4 := P4.upd.ext0 (E0.trans E3) (by simpa using su0)
    have x4 := E4.2 _ _ hX
    have s5 := P4.2.1
    refine k_pop2 C dX1_digest_128 rfl ?_
    refine k_aload_n C dX1_digest_129 rfl ?_
    refine k_aload_n C dX1_digest_130 rfl ?_
    refine k_iconst C dX1_digest_131 ?_
    refine kx_V C rfl mv_X1_382 dX1_digest_132 ((c_championNow (H.ext E4) hσ (by decide))) (by assumption) rfl rfl (Nat.le_of_ble_eq_true rfl) ⟨(Nat.le_of_ble_eq_true rfl), (Nat.le_of_ble_eq_true rfl)⟩ (by omega) (fun v h5 hp_ => ?_) (fun _ _ hx => hx.elim)
    obtain ⟨rfl, E5⟩ := hp_
    have s6 := E5.2 _ _ s5
    refine kx_V C rfl mv_X1_410 dX1_digest_135 ((c_suAdd s6)) (by assumption) rfl rfl (Nat.le_of_ble_eq_true rfl) ⟨(Nat.le_of_ble_eq_true rfl), (Nat.le_of_ble_eq_true rfl)⟩ (by omega) (fun v h6 hp_ => ?_) (fun _ _ hx => hx.elim)
    obtain ⟨rfl, P6⟩ := hp_
    exact k_lret C E dX1_digest_138 (by omega) ⟨by rw [hdig], P6.upd.ext0 (E4.trans E5) (by simpa using su0)⟩
  have p75 : ∀ (d t : Nat) (hh : Hp), t + d = σ.k → Ext h hh → hh.2 su = some (.inl (13, [.long (mixN (fun t => tagR (σ.tg t) 9 10) t s2)])) → Wk w K hh (12 + 1055 * σ.n) (67 + 9040 * σ.n) 75 [some (.ref x), some (.ref su), some (jI (t : Nat))] [] := by
    intro d
    induction d with
    | zero =>
      intro t hh ht E0 hs
      have ht' : t = σ.k := by omega
      subst ht'
      rw [hs3] at hs
      have x0 := E0.2 _ _ hX
      obtain ⟨ft, At, Ft⟩ := (H.ext E0).2.2.1
      have lt := At.1
      refine k_iload_n C dX1_digest_75 rfl ?_
      refine k_aload_n C dX1_digest_76 rfl ?_
      refine k_get C fg_X1_134 dX1_digest_77 (by assumption) (by rfl) ?_
      refine kx_F C rfl mf_X1_56 dX1_digest_80 ((c_size lt)) (by assumption) rfl rfl (Nat.le_of_ble_eq_true rfl) ⟨(Nat.le_of_ble_eq_true rfl), (Nat.le_of_ble_eq_true rfl)⟩ (by omega) (fun v kk hp_ => ?_) (fun _ _ hx => hx.elim)
      obtain ⟨rfl, rfl⟩ := hp_
      refine k_icmp_ge C dX1_digest_85 (tgt := 119) (by decide) (by omega) (fun g1 => ?_) (fun g2 => ?_)
      · exact Wk.sub (by repeat (first | exact trivial | apply Lle.so | apply Lle.no)) (p119 kk E0 hs)
      · omega
    | succ d ih =>
      intro t hh ht E0 hs
      have x0 := E0.2 _ _ hX
      obtain ⟨ft, At, Ft⟩ := (H.ext E0).2.2.1
      have lt := At.1
      have TG := (H.ext E0).2.2.2.2.2 t (by omega)
      have TG1 := TG.1
      have tok := hσ.2.2.2.1 t (by omega)
      refine k_iload_n C dX1_digest_75 rfl ?_
      refine k_aload_n C dX1_digest_76 rfl ?_
      refine k_get C fg_X1_134 dX1_digest_77 (by assumption) (by rfl) ?_
      refine kx_F C rfl mf_X1_56 dX1_digest_80 ((c_size lt)) (by assumption) rfl rfl (Nat.le_of_ble_eq_true rfl) ⟨(Nat.le_of_ble_eq_true rfl), (Nat.le_of_ble_eq_true rfl)⟩ (by omega) (fun v kk hp_ => ?_) (fun _ _ hx => hx.elim)
      obtain ⟨rfl, rfl⟩ := hp_
      refine k_icmp_ge C dX1_digest_85 (tgt := 119) (by decide) (by omega) (fun g1 => ?_) (fun g2 => ?_)
      · omega
      · refine k_aload_n C dX1_digest_88 rfl ?_
        refine k_aload_n C dX1_digest_89 rfl ?_
        refine k_get C fg_X1_134 dX1_digest_90 (by assumption) (by rfl) ?_
        refine k_iload_n C dX1_digest_93 rfl ?_
        refine kx_F C rfl mf_X1_60 dX1_digest_94 ((c_get At (by omega) (Ft t (by omega)))) (by assumption) rfl rfl (Nat.le_of_ble_eq_true rfl) ⟨(Nat.le_of_ble_eq_true rfl), (Nat.le_of_ble_eq_true rfl)⟩ (by omega) (fun v k2 hp_ => ?_) (fun _ _ hx => hx.elim)
        obtain ⟨rfl, rfl⟩ := hp_
        refine k_castO C ck_X1_240_9 dX1_digest_99 (by assumption) ?_
        refine k_bipush C dX1_digest_102 (by decide) ?_
        refine k_bipush C dX1_digest_104 (by decide) ?_
        refine kx_S C rfl ms_X1_395 dX1_digest_106 ((c_taggedNow (row := 10) (m := 9) TG tok ⟨by decide, by decide⟩ (by decide))) rfl rfl (Nat.le_of_ble_eq_true rfl) ⟨(Nat.le_of_ble_eq_true rfl), (Nat.le_of_ble_eq_true rfl)⟩ (by omega) (fun v k3 hp_ => ?_) (fun _ _ hx => hx.elim)
        obtain ⟨rfl, rfl⟩ := hp_
        refine kx_V C rfl mv_X1_410 dX1_digest_109 ((c_suAdd hs)) (by assumption) rfl rfl (Nat.le_of_ble_eq_true rfl) ⟨(Nat.le_of_ble_eq_true rfl), (Nat.le_of_ble_eq_true rfl)⟩ (by omega) (fun v h4 hp_ => ?_) (fun _ _ hx => hx.elim)
        obtain ⟨rfl, P4⟩ := hp_
        refine k_pop2 C dX1_digest_112 rfl ?_
        refine k_iinc C dX1_digest_113 rfl rfl ?_
        refine k_goto C dX1_digest_116 (tgt := 75) (by decide) ?_
        exact ih (t + 1) h4 (by omega) (P4.upd.ext0 E0 (by simpa using su0)) P4.2.1
  have p37 : ∀ (d j : Nat) (hh : Hp), j + d = σ.n → Ext h hh → hh.2 su = some (.inl (13, [.long (mixMs σ j s1)])) → Wk w K hh (12 + 1055 * j) (67 + 9040 * j) 37 [some (.ref x), some (.ref su), some (jI (j : Nat))] [] := by
    intro d
    induction d with
    | zero =>
      intro j hh hj E0 hs
      have hj' : j = σ.n := by omega
      subst hj'
      rw [hs2] at hs
      have x0 := E0.2 _ _ hX
      obtain ⟨f, A, F⟩ := (H.ext E0).2.1
      have l1 := A.1
      refine k_iload_n C dX1_digest_37 rfl ?_
      refine k_aload_n C dX1_digest_38 rfl ?_
      refine k_get C fg_X1_130 dX1_digest_39 (by assumption) (by rfl) ?_
      refine kx_F C rfl mf_X1_56 dX1_digest_42 ((c_size l1)) (by assumption) rfl rfl (Nat.le_of_ble_eq_true rfl) ⟨(Nat.le_of_ble_eq_true rfl), (Nat.le_of_ble_eq_true rfl)⟩ (by omega) (fun v kk hp_ => ?_) (fun _ _ hx => hx.elim)
      obtain ⟨rfl, rfl⟩ := hp_
      refine k_icmp_ge C dX1_digest_47 (tgt := 73) (by decide) (by omega) (fun g1 => ?_) (fun g2 => ?_)
      · refine k_iconst C dX1_digest_73 ?_
        refine k_istore_n C dX1_digest_74 (Nat.le_of_ble_eq_true rfl) rfl ?_
        exact p75 σ.k 0 kk (by omega) E0 hs
      · omega
    | succ d ih =>
      intro j hh hj E0 hs
      have x0 := E0.2 _ _ hX
      obtain ⟨f, A, F⟩ := (H.ext E0).2.1
      have l1 := A.1
      have M := (H.ext E0).2.2.2.2.1 j (by omega)
      obtain ⟨⟨k0, ea, -⟩, -⟩ := id M
      have mok := hσ.2.2.1 j (by omega)
      refine k_iload_n C dX1_digest_37 rfl ?_
      refine k_aload_n C dX1_digest_38 rfl ?_
      refine k_get C fg_X1_130 dX1_digest_39 (by assumption) (by rfl) ?_
      refine kx_F C rfl mf_X1_56 dX1_digest_42 ((c_size l1)) (by assumption) rfl rfl (Nat.le_of_ble_eq_true rfl) ⟨(Nat.le_of_ble_eq_true rfl), (Nat.le_of_ble_eq_true rfl)⟩ (by omega) (fun v kk hp_ => ?_) (fun _ _ hx => hx.elim)
      obtain ⟨rfl, rfl⟩ := hp_
      refine k_icmp_ge C dX1_digest_47 (tgt := 73) (by decide) (by omega) (fun g1 => ?_) (fun g2 => ?_)
      · omega
      · refine k_aload_n C dX1_digest_50 rfl ?_
        refine k_aload_n C dX1_digest_51 rfl ?_
        refine k_get C fg_X1_130 dX1_digest_52 (by assumption) (by rfl) ?_
        refine k_iload_n C dX1_digest_55 rfl ?_
        refine kx_F C rfl mf_X1_60 dX1_digest_56 ((c_get A (by omega) (F j (by omega)))) (by assumption) rfl rfl (Nat.le_of_ble_eq_true rfl) ⟨(Nat.le_of_ble_eq_true rfl), (Nat.le_of_ble_eq_true rfl)⟩ (by omega) (fun v k2 hp_ => ?_) (fun _ _ hx => hx.elim)
        obtain ⟨rfl, rfl⟩ := hp_
        refine k_castO C ck_X1_160_3 dX1_digest_61 (by assumption) ?_
        refine kx_S C rfl ms_X1_420 dX1_digest_64 ((c_mixM M mok hs)) rfl rfl (Nat.le_of_ble_eq_true rfl) ⟨(Nat.le_of_ble_eq_true rfl), (Nat.le_of_ble_eq_true rfl)⟩ (by omega) (fun v h4 hp_ => ?_) (fun _ _ hx => hx.elim)
        obtain ⟨rfl, s4, U4⟩ := hp_
        refine k_iinc C dX1_digest_67 rfl rfl ?_
        refine k_goto C dX1_digest_70 (tgt := 37) (by decide) ?_
        exact Wk.widen (n' := 12 + 1055 * (j + 1)) (k' := 67 + 9040 * (j + 1)) (by omega) (by omega) (ih (j + 1) h4 (by omega) (U4.ext0 E0 (by simpa using su0)) s4)
  have p13 : ∀ (d w' : Nat) (hh : Hp), w' + d = 11 → Ext h hh → hh.2 su = some (.inl (13, [.long (mixN (fun w => manyC σ (w : Nat)) w' 58237)])) → Wk w K hh (1 + w') (1 + 6 * w') 13 [some (.ref x), some (.ref su), some (jI (w' : Nat))] [] := by
    intro d
    induction d with
    | zero =>
      intro w' hh hw E0 hs
      have hw' : w' = 11 := by omega
      subst hw'
      rw [hs1] at hs
      refine k_iload_n C dX1_digest_13 rfl ?_
      refine k_bipush C dX1_digest_14 (by decide) ?_
      refine k_icmp_gt C dX1_digest_16 (tgt := 35) (by decide) (by omega) (fun g1 => ?_) (fun g2 => ?_)
      · refine k_iconst C dX1_digest_35 ?_
        refine k_istore_n C dX1_digest_36 (Nat.le_of_ble_eq_true rfl) rfl ?_
        exact Wk.widen (n' := 12 + 1055 * 0) (k' := 67 + 9040 * 0) (by omega) (by omega) (p37 σ.n 0 hh (by omega) E0 hs)
      · omega
    | succ d ih =>
      intro w' hh hw E0 hs
      have x0 := E0.2 _ _ hX
      refine k_iload_n C dX1_digest_13 rfl ?_
      refine k_bipush C dX1_digest_14 (by decide) ?_
      refine k_icmp_gt C dX1_digest_16 (tgt := 35) (by decide) (by omega) (fun g1 => ?_) (fun g2 => ?_)
      · omega
      · refine k_aload_n C dX1_digest_19 rfl ?_
        refine k_aload_n C dX1_digest_20 rfl ?_
        refine k_iload_n C dX1_digest_21 rfl ?_
        refine kx_V C rfl mv_X1_404 dX1_digest_22 ((c_manyNow (what := (w' : Nat)) (H.ext E0) hσ (by omega))) (by assumption) rfl rfl (Nat.le_of_ble_eq_true rfl) ⟨(Nat.le_of_ble_eq_true rfl), (Nat.le_of_ble_eq_true rfl)⟩ (by omega) (fun v k2 hp_ => ?_) (fun _ _ hx => hx.elim)
        obtain ⟨rfl, rfl⟩ := hp_
        refine kx_V C rfl mv_X1_410 dX1_digest_25 ((c_suAdd hs)) (by assumption) rfl rfl (Nat.le_of_ble_eq_true rfl) ⟨(Nat.le_of_ble_eq_true rfl), (Nat.le_of_ble_eq_true rfl)⟩ (by omega) (fun v h4 hp_ => ?_) (fun _ _ hx => hx.elim)
        obtain ⟨rfl, P4⟩ := hp_
        refine k_pop2 C dX1_digest_28 rfl ?_
        refine k_iinc C dX1_digest_29 rfl rfl ?_
        refine k_goto C dX1_digest_32 (tgt := 13) (by decide) ?_
        exact Wk.widen (n' := 1 + (w' + 1)) (k' := 1 + 6 * (w' + 1)) (by omega) (by omega) (ih (w' + 1) h4 (by omega) (P4.upd.ext0 E0 (by simpa using su0)) P4.2.1)
  refine k_astore_n C dX1_digest_10 (Nat.le_of_ble_eq_true rfl) rfl ?_
  refine k_iconst C dX1_digest_11 ?_
  refine k_istore_n C dX1_digest_12 (Nat.le_of_ble_eq_true rfl) rfl ?_
  exact p13 11 0 h2 (by omega) E2 P2.2.1
