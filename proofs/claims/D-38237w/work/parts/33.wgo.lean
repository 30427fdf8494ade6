/-! ===== windows: what comes of one ===== -/
set_option maxRecDepth 100000
theorem orW {n M : Nat} (hM : isM n M) {a b : Int} (ha : 0 ≤ a ∧ a < M) (hb : b = 0 ∨ b = 1) : (((a * 2).toNat ||| b.toNat : Nat) : Int) = a * 2 + b := by
  have key : ∀ x : Nat, x < 8 → ∀ y : Nat, y < 2 → (x * 2 ||| y) = x * 2 + y := by decide
  have hM8 : M ≤ 8 := by rcases hM with ⟨rfl, rfl⟩ | ⟨rfl, rfl⟩ | ⟨rfl, rfl⟩ <;> omega
  have := key a.toNat (by omega) b.toNat (by omega)
  rw [show (a * 2).toNat = a.toNat * 2 by omega, this]
  omega
theorem orN {n M : Nat} (hM : isM n M) {a x : Int} (ha : 0 ≤ a ∧ a < M) (hx : x = 0 ∨ x = 1) : (((a / 2).toNat ||| (x * ((M : Int) / 2)).toNat : Nat) : Int) = a / 2 + x * ((M : Int) / 2) := by
  have k2 : ∀ x : Nat, x < 1 → ∀ y : Nat, y < 2 → (x ||| y * 1) = x + y * 1 := by decide
  have k4 : ∀ x : Nat, x < 2 → ∀ y : Nat, y < 2 → (x ||| y * 2) = x + y * 2 := by decide
  have k8 : ∀ x : Nat, x < 4 → ∀ y : Nat, y < 2 → (x ||| y * 4) = x + y * 4 := by decide
  rcases hM with ⟨rfl, rfl⟩ | ⟨rfl, rfl⟩ | ⟨rfl, rfl⟩
  · have := k2 (a / 2).toNat (by omega) x.toNat (by omega)
    rw [show (x * (((2 : Nat) : Int) / 2)).toNat = x.toNat * 1 by omega, this]; omega
  · have := k4 (a / 2).toNat (by omega) x.toNat (by omega)
    rw [show (x * (((4 : Nat) : Int) / 2)).toNat = x.toNat * 2 by omega, this]; omega
  · have := k8 (a / 2).toNat (by omega) x.toNat (by omega)
    rw [show (x * (((8 : Nat) : Int) / 2)).toNat = x.toNat * 4 by omega, this]; omega
theorem isWn.tb {w : Wd} {h h' : Hp} {o t la ra sa n M : Nat} {T : Tb} {g : Gw} {t2 lst ar : Nat} {T2 : Tb} (H : isWn h o t la ra sa T n M g) (U : Upd h h' [o, la, ra, sa]) (G : isTb w h t2 lst ar T2) : isTb w h' t2 lst ar T2 := by
  have key : ∀ (q : Nat) (d : Cel), h.2 q = some d → (∀ x : List Value, d ≠ .inl (12, x)) → (∀ (x : Nat) (y : Nat → Value), d ≠ .inr (1, x, y)) → h'.2 q = some d := fun q d e h1 h2 => U.2 q d e (fun hq => by
    have hq' : q = o ∨ q = la ∨ q = ra ∨ q = sa := by simpa using hq
    obtain ⟨i1, i2, i3, i4, -⟩ := H
    rcases hq' with z | z | z | z
    · rw [z, i1] at e; exact h1 _ (Option.some.inj e).symm
    · rw [z, i2] at e; exact h2 _ _ (Option.some.inj e).symm
    · rw [z, i3] at e; exact h2 _ _ (Option.some.inj e).symm
    · rw [z, i4] at e; exact h2 _ _ (Option.some.inj e).symm)
  obtain ⟨h1, f, ⟨h2, h3, h4⟩, h5⟩ := G
  refine ⟨key _ _ h1 (fun x e => by cases e) (fun x y e => by cases e), f, ⟨key _ _ h2 (fun x e => by cases e) (fun x y e => by cases e), key _ _ h3 (fun x e => by cases e) (fun x y e => by cases e), h4⟩, fun k k0 k1 => ?_⟩
  obtain ⟨b, e1, e2⟩ := h5 k k0 k1
  refine ⟨b, e1, ?_⟩
  cases hr : T2.2 k with
  | none =>
    rw [hr] at e2
    exact key _ _ e2 (fun x e => by cases e) (fun x y e => by cases e)
  | some r =>
    rw [hr] at e2
    obtain ⟨b2, e3, e4⟩ := e2
    exact ⟨b2, key _ _ e3 (fun x e => by cases e) (fun x y e => by cases e), key _ _ e4 (fun x e => by cases e) (fun x y e => by cases e)⟩
theorem c_goN {w : Wd} {h : Hp} {o t la ra sa lst ar0 n M : Nat} {T : Tb} {g : Gw} {k : Int} (hM : isM n M) (H : isWn h o t la ra sa T n M g) (G : isTb w h t lst ar0 T) (hT : TbOk T) (h0 : 0 ≤ k) (h1 : k < ((szW T M : Nat) : Int)) (hg : goW T M g k = none) : Ct w yX13_go (ws_ yX13_go cX13_go 13 (some FieldType.boolean)) 5 108 0 0 [.ref o, jI k] h (fun v h' => v = some (jI (b2i false)) ∧ h' = h) NoX := by
  obtain ⟨p1, p2, p3, p4, p5⟩ := pw_n hM
  obtain ⟨z1, z2, z3⟩ := szW_b hT hM
  have hn : 1 ≤ n ∧ n ≤ 3 ∧ 2 ≤ M ∧ M ≤ 8 := by rcases hM with ⟨rfl, rfl⟩ | ⟨rfl, rfl⟩ | ⟨rfl, rfl⟩ <;> omega
  have hMM : 4 ≤ (M : Int) * M ∧ (M : Int) * M ≤ 64 := by rcases hM with ⟨rfl, rfl⟩ | ⟨rfl, rfl⟩ | ⟨rfl, rfl⟩ <;> omega
  obtain ⟨a1, a2, a3, a4, -⟩ := win_b hM h0 (S := T.1) (by unfold szW at h1; exact h1)
  have hT2 := hT.2.1
  have ow := H.1
  have G1 := G.1
  have a5 : 0 ≤ k / (M : Int) ∧ k / (M : Int) ≤ k := by rcases hM with ⟨rfl, rfl⟩ | ⟨rfl, rfl⟩ | ⟨rfl, rfl⟩ <;> omega
  have ek : 2 * (k / (2 * ((M : Int) * M))) + k / ((M : Int) * M) % 2 = k / ((M : Int) * M) := by rw [a4]; omega
  refine Ct.of (by decide) [some (.ref o), some (jI k), none, none, none, none, none, none, none, none, none, none, none] rfl (Nat.le_of_ble_eq_true rfl) (fun K C E N0 => ?_)
  refine k_iload_n C dX13_go_0 rfl ?_
  refine k_iconst C dX13_go_1 ?_
  refine k_aload_n C dX13_go_2 rfl ?_
  refine k_get C fg_X13_17 dX13_go_3 (by assumption) (by rfl) ?_
  refine k_ishl C dX13_go_6 (by omega) ?_
  rw [p1]
  refine k_irem C dX13_go_7 (by omega) ?_
  refine k_istore_n C dX13_go_8 (Nat.le_of_ble_eq_true rfl) rfl ?_
  refine k_iload_n C dX13_go_9 rfl ?_
  refine k_aload_n C dX13_go_10 rfl ?_
  refine k_get C fg_X13_17 dX13_go_11 (by assumption) (by rfl) ?_
  refine k_ishr C dX13_go_14 (by omega) ?_
  rw [p2]
  refine k_iconst C dX13_go_15 ?_
  refine k_aload_n C dX13_go_16 rfl ?_
  refine k_get C fg_X13_17 dX13_go_17 (by assumption) (by rfl) ?_
  refine k_ishl C dX13_go_20 (by omega) ?_
  rw [p1]
  refine k_irem C dX13_go_21 (by omega) ?_
  refine k_istore_n C dX13_go_22 (Nat.le_of_ble_eq_true rfl) rfl ?_
  refine k_iload_n C dX13_go_23 rfl ?_
  refine k_iconst C dX13_go_24 ?_
  refine k_aload_n C dX13_go_25 rfl ?_
  refine k_get C fg_X13_17 dX13_go_26 (by assumption) (by rfl) ?_
  refine k_imul C dX13_go_29 ?_
  refine k_ishr C dX13_go_30 (by omega) ?_
  rw [p3]
  refine k_iconst C dX13_go_31 ?_
  refine k_irem C dX13_go_32 (by omega) ?_
  refine k_istore C dX13_go_33 (Nat.le_of_ble_eq_true rfl) rfl ?_
  refine k_iload_n C dX13_go_35 rfl ?_
  refine k_iconst C dX13_go_36 ?_
  refine k_aload_n C dX13_go_37 rfl ?_
  refine k_get C fg_X13_17 dX13_go_38 (by assumption) (by rfl) ?_
  refine k_imul C dX13_go_41 ?_
  refine k_iconst C dX13_go_42 ?_
  refine k_iadd C dX13_go_43 ?_
  refine k_ishr C dX13_go_44 (by omega) ?_
  rw [p4]
  refine k_istore C dX13_go_45 (Nat.le_of_ble_eq_true rfl) rfl ?_
  refine k_aload_n C dX13_go_47 rfl ?_
  refine k_get C fg_X13_13 dX13_go_48 (by assumption) (by rfl) ?_
  refine k_iload C dX13_go_51 rfl ?_
  refine k_iload C dX13_go_53 rfl ?_
  refine kx_V C rfl mv_X13_36 dX13_go_55 ((c_endsAt G hT (by omega) (by omega))) (by assumption) rfl rfl (Nat.le_of_ble_eq_true rfl) ⟨(Nat.le_of_ble_eq_true rfl), (Nat.le_of_ble_eq_true rfl)⟩ (by omega) (fun v kk hp_ => ?_) (fun _ _ hx => hx.elim)
  obtain ⟨rfl, rfl⟩ := hp_
  rw [ek]
  refine k_ifeq_b C dX13_go_58 (tgt := 63) (by decide) (fun g1 => ?_) (fun g2 => ?_)
  · unfold goW at hg
    unfold endsB at g1
    cases hc : T.2 (k / ((M : Int) * M)) with
    | none => rw [hc] at g1; cases g1
    | some r =>
      rw [hc] at g1 hg
      dsimp only at hg g1
      rw [if_neg (of_decide_eq_false g1)] at hg
      cases hg
  · refine k_iconst C dX13_go_61 ?_
    exact k_zret (b := false) C E dX13_go_62 (by omega) ⟨rfl, rfl⟩
theorem c_goS {w : Wd} {h : Hp} {o t la ra sa lst ar0 n M : Nat} {T : Tb} {g g' : Gw} {k : Int} (hM : isM n M) (H : isWn h o t la ra sa T n M g) (gok : GwOk g) (G : isTb w h t lst ar0 T) (hT : TbOk T) (h0 : 0 ≤ k) (h1 : k < ((szW T M : Nat) : Int)) (hg : goW T M g k = some g') : Ct w yX13_go (ws_ yX13_go cX13_go 13 (some FieldType.boolean)) 5 108 0 0 [.ref o, jI k] h (fun v h' => v = some (jI (b2i true)) ∧ isWn h' o t la ra sa T n M g' ∧ Upd h h' [o, la, ra, sa]) NoX := by
  obtain ⟨p1, p2, p3, p4, p5⟩ := pw_n hM
  obtain ⟨z1, z2, z3⟩ := szW_b hT hM
  have hn : 1 ≤ n ∧ n ≤ 3 ∧ 2 ≤ M ∧ M ≤ 8 := by rcases hM with ⟨rfl, rfl⟩ | ⟨rfl, rfl⟩ | ⟨rfl, rfl⟩ <;> omega
  have hMM : 4 ≤ (M : Int) * M ∧ (M : Int) * M ≤ 64 := by rcases hM with ⟨rfl, rfl⟩ | ⟨rfl, rfl⟩ | ⟨rfl, rfl⟩ <;> omega
  obtain ⟨a1, a2, a3, a4, -⟩ := win_b hM h0 (S := T.1) (by unfold szW at h1; exact h1)
  have hT2 := hT.2.1
  have ow := H.1
  have G1 := G.1
  have a5 : 0 ≤ k / (M : Int) ∧ k / (M : Int) ≤ k := by rcases hM with ⟨rfl, rfl⟩ | ⟨rfl, rfl⟩ | ⟨rfl, rfl⟩ <;> omega
  have ek : 2 * (k / (2 * ((M : Int) * M))) + k / ((M : Int) * M) % 2 = k / ((M : Int) * M) := by rw [a4]; omega
  refine Ct.of (by decide) [some (.ref o), some (jI k), none, none, none, none, none, none, none, none, none, none, none] rfl (Nat.le_of_ble_eq_true rfl) (fun K C E N0 => ?_)
  refine k_iload_n C dX13_go_0 rfl ?_
  refine k_iconst C dX13_go_1 ?_
  refine k_aload_n C dX13_go_2 rfl ?_
  refine k_get C fg_X13_17 dX13_go_3 (by assumption) (by rfl) ?_
  refine k_ishl C dX13_go_6 (by omega) ?_
  rw [p1]
  refine k_irem C dX13_go_7 (by omega) ?_
  refine k_istore_n C dX13_go_8 (Nat.le_of_ble_eq_true rfl) rfl ?_
  refine k_iload_n C dX13_go_9 rfl ?_
  refine k_aload_n C dX13_go_10 rfl ?_
  refine k_get C fg_X13_17 dX13_go_11 (by assumption) (by rfl) ?_
  refine k_ishr C dX13_go_14 (by omega) ?_
  rw [p2]
  refine k_iconst C dX13_go_15 ?_
  refine k_aload_n C dX13_go_16 rfl ?_
  refine k_get C fg_X13_17 dX13_go_17 (by assumption) (by rfl) ?_
  refine k_ishl C dX13_go_20 (by omega) ?_
  rw [p1]
  refine k_irem C dX13_go_21 (by omega) ?_
  refine k_istore_n C dX13_go_22 (Nat.le_of_ble_eq_true rfl) rfl ?_
  refine k_iload_n C dX13_go_23 rfl ?_
  refine k_iconst C dX13_go_24 ?_
  refine k_aload_n C dX13_go_25 rfl ?_
  refine k_get C fg_X13_17 dX13_go_26 (by assumption) (by rfl) ?_
  refine k_imul C dX13_go_29 ?_
  refine k_ishr C dX13_go_30 (by omega) ?_
  rw [p3]
  refine k_iconst C dX13_go_31 ?_
  refine k_irem C dX13_go_32 (by omega) ?_
  refine k_istore C dX13_go_33 (Nat.le_of_ble_eq_true rfl) rfl ?_
  refine k_iload_n C dX13_go_35 rfl ?_
  refine k_iconst C dX13_go_36 ?_
  refine k_aload_n C dX13_go_37 rfl ?_
  refine k_get C fg_X13_17 dX13_go_38 (by assumption) (by rfl) ?_
  refine k_imul C dX13_go_41 ?_
  refine k_iconst C dX13_go_42 ?_
  refine k_iadd C dX13_go_43 ?_
  refine k_ishr C dX13_go_44 (by omega) ?_
  rw [p4]
  refine k_istore C dX13_go_45 (Nat.le_of_ble_eq_true rfl) rfl ?_
  refine k_aload_n C dX13_go_47 rfl ?_
  refine k_get C fg_X13_13 dX13_go_48 (by assumption) (by rfl) ?_
  refine k_iload C dX13_go_51 rfl ?_
  refine k_iload C dX13_go_53 rfl ?_
  refine kx_V C rfl mv_X13_36 dX13_go_55 ((c_endsAt G hT (by omega) (by omega))) (by assumption) rfl rfl (Nat.le_of_ble_eq_true rfl) ⟨(Nat.le_of_ble_eq_true rfl), (Nat.le_of_ble_eq_true rfl)⟩ (by omega) (fun v kk hp_ => ?_) (fun _ _ hx => hx.elim)
  obtain ⟨rfl, rfl⟩ := hp_
  rw [ek]
  unfold goW at hg
  cases hc : T.2 (k / ((M : Int) * M)) with
  | none => rw [hc] at hg; cases hg
  | some r =>
    have hr := hT.2.2 _ r a3.1 (by omega) hc
    obtain ⟨u1, u2, u3, u4⟩ := id hr
    rw [hc] at hg
    dsimp only at hg
    have hne : ¬ r.2.2 = T.1 := fun z => by rw [if_pos z] at hg; cases hg
    rw [if_neg hne] at hg
    have eg := (Option.some.inj hg).symm
    rw [endsB_some hc, decide_eq_false hne]
    refine k_ifeq_b C dX13_go_58 (tgt := 63) (by decide) (fun g1 => ?_) (fun g2 => by cases g2)
    refine k_aload_n C dX13_go_63 rfl ?_
    refine k_get C fg_X13_13 dX13_go_64 (by assumption) (by rfl) ?_
    refine k_iload C dX13_go_67 rfl ?_
    refine k_iload C dX13_go_69 rfl ?_
    refine kx_V C rfl mv_X13_40 dX13_go_71 ((c_cell G hT2 (by omega) (by omega))) (by assumption) rfl rfl (Nat.le_of_ble_eq_true rfl) ⟨(Nat.le_of_ble_eq_true rfl), (Nat.le_of_ble_eq_true rfl)⟩ (by omega) (fun v kk hp_ => ?_) (fun _ _ hx => hx.elim)
    obtain ⟨oo, rfl, e2, rfl⟩ := hp_
    rw [ek] at e2
    obtain ⟨vo, e3⟩ := e2.cell
    rw [hc] at e2
    refine kx_V C rfl mv_X13_44 dX13_go_74 ((c_orGet e2)) (by assumption) rfl rfl (Nat.le_of_ble_eq_true rfl) ⟨(Nat.le_of_ble_eq_true rfl), (Nat.le_of_ble_eq_true rfl)⟩ (by omega) (fun v kk hp_ => ?_) (fun _ _ hx => hx.elim)
    obtain ⟨a, rfl, e6, rfl⟩ := hp_
    unfold isRu at e6
    have rest : ∀ b : Bool, ritB r = b → Wk w K kk 0 0 95 [some (.ref o), some (jI k), some (jI (k % M)), some (jI (k / M % M)), some (jI (k / ((M : Int) * M) % 2)), some (jI (k / (2 * ((M : Int) * M)))), some (.ref a), none, none, none, none, none, none] [jI (b2i b)] := by
      intro b hb
      cases b
      · -- false
        have hgn := gn_b hM (a := (k % M) * 2 + r.1) (by omega)
        have step : ∀ (x : Int) (hh : Hp) (gg : Gw), (x = 0 ∨ x = 1) → isWn hh o t la ra sa T n M gg → GwOk gg → Upd kk hh [o, la, ra, sa] → (∀ hh2 : Hp, isWn hh2 o t la ra sa T n M (seeX M r false (k / M % M) (((k % M) * 2 + r.1) % M) gg x) → Upd kk hh2 [o, la, ra, sa] → Wk w K hh2 0 0 165 [some (.ref o), some (jI k), some (jI (k % M)), some (jI (k / M % M)), some (jI (k / ((M : Int) * M) % 2)), some (jI (k / (2 * ((M : Int) * M)))), some (.ref a), some (jI (b2i false)), some (jI (k % M)), some (jI (k / M % M)), some (jI ((k % M * 2 + r.1) % M)), some (jI (x + 1)), none] []) → Wk w K hh 0 0 165 [some (.ref o), some (jI k), some (jI (k % M)), some (jI (k / M % M)), some (jI (k / ((M : Int) * M) % 2)), some (jI (k / (2 * ((M : Int) * M)))), some (.ref a), some (jI (b2i false)), some (jI (k % M)), some (jI (k / M % M)), some (jI ((k % M * 2 + r.1) % M)), some (jI x), none] [] := by
          intro x hh gg hx W gok U cont
          have nb := nxt_w hM (a := k / M % M) (by omega) hx
          obtain ⟨W1, W2, W3, W4, W5, W6, W7⟩ := id W
          obtain ⟨k1, k2, k3⟩ := id gok
          have e6' := U.2 _ _ e6 (by simp [ne_cel e6 ow (ne_cls (by decide)), ne_cel e6 H.2.1 ne_ao, ne_cel e6 H.2.2.1 ne_ao, ne_cel e6 H.2.2.2.1 ne_ao])
          have hM2 : 0 ≤ (M : Int) / 2 ∧ (M : Int) / 2 ≤ 4 := by omega
          have hxM : 0 ≤ x * ((M : Int) / 2) ∧ x * ((M : Int) / 2) ≤ 4 := by rcases hx with rfl | rfl <;> omega
          refine k_iload C dX13_go_165 rfl ?_
          refine k_iconst C dX13_go_167 ?_
          refine k_icmp_ge C dX13_go_168 (tgt := 271) (by decide) (by omega) (fun g1 => ?_) (fun g2 => ?_)
          · omega
          · refine k_iload C dX13_go_171 rfl ?_
            refine k_iconst C dX13_go_173 ?_
            refine k_ishr C dX13_go_174 (by omega) ?_
            rw [show (2 : Int) ^ (1 : Int).toNat = 2 from rfl]
            refine k_iload C dX13_go_175 rfl ?_
            refine k_aload_n C dX13_go_177 rfl ?_
            refine k_get C fg_X13_17 dX13_go_178 (by assumption) (by rfl) ?_
            refine k_iconst C dX13_go_181 ?_
            refine k_isub C dX13_go_182 ?_
            refine k_ishl C dX13_go_183 (by omega) ?_
            rw [p5]
            refine k_ior C dX13_go_184 (by omega) ?_
            rw [orN hM (by omega) hx]
            refine k_istore C dX13_go_185 (Nat.le_of_ble_eq_true rfl) rfl ?_
            refine k_iload C dX13_go_187 rfl ?_
            have v1 := k1 (k / M % M / 2 + x * ((M : Int) / 2))
            refine k_ifeq_b C dX13_go_189 (tgt := 205) (by decide) (fun g4 => ?_) (fun g3 => ?_)
            rotate_left
            · cases g3
            · refine k_aload_n C dX13_go_205 rfl ?_
              refine k_get C fg_X13_21 dX13_go_206 (by assumption) (by rfl) ?_
              refine k_iload C dX13_go_209 rfl ?_
              refine k_zald C dX13_go_211 (by assumption) (by omega) ?_
              refine k_if_eq C dX13_go_212 (tgt := 265) (by decide) (by omega) (fun g5 => ?_) (fun g6 => ?_)
              · refine k_iinc C dX13_go_265 rfl rfl ?_
                refine k_goto C dX13_go_268 (tgt := 165) (by decide) ?_
                have es : seeX M r false (k / M % M) (((k % M) * 2 + r.1) % M) gg x = gg := by unfold seeX sideOf; rw [if_pos (show (if false = true then gg.rg else gg.lf) (k / M % M / 2 + x * ((M : Int) / 2)) = 0 from g5)]
                rw [es] at cont
                exact Wk.sub (by repeat (first | exact trivial | apply Lle.so | apply Lle.no)) (cont hh W U)
              · have es : seeX M r false (k / M % M) (((k % M) * 2 + r.1) % M) gg x = mkSeen gg (numW M r.2.2 (k / M % M % 2) (k / M % M / 2 + x * ((M : Int) / 2)) (((k % M) * 2 + r.1) % M)) := by unfold seeX sideOf; rw [if_neg (show ¬ (if false = true then gg.rg else gg.lf) (k / M % M / 2 + x * ((M : Int) / 2)) = 0 from g6)]; rfl
                rw [es] at cont
                have nn := num_b hM (S := T.1) (s := r.2.2) (b := k / M % M % 2) (l := k / M % M / 2 + x * ((M : Int) / 2)) (r := ((k % M) * 2 + r.1) % M) (by omega) (by omega) (by omega) (by omega)
                refine k_aload_n C dX13_go_215 rfl ?_
                refine k_aload_n C dX13_go_216 rfl ?_
                refine k_get C fg_X13_33 dX13_go_217 (by assumption) (by rfl) ?_
                refine k_iload C dX13_go_220 rfl ?_
                refine k_ifeq_b C dX13_go_222 (tgt := 245) (by decide) (fun g8 => ?_) (fun g7 => ?_)
                rotate_left
                · cases g7
                · refine k_aload_n C dX13_go_245 rfl ?_
                  refine k_aload C dX13_go_246 rfl ?_
                  refine k_getN C fn_X13_62 dX13_go_248 (by assumption) (by rfl) ?_
                  refine k_iload C dX13_go_251 rfl ?_
                  refine k_iconst C dX13_go_253 ?_
                  refine k_irem C dX13_go_254 (by omega) ?_
                  refine k_iload C dX13_go_255 rfl ?_
                  refine k_iload C dX13_go_257 rfl ?_
                  refine kx_V C rfl mv_X13_65 dX13_go_259 ((c_number hM W1)) (by assumption) rfl rfl (Nat.le_of_ble_eq_true rfl) ⟨(Nat.le_of_ble_eq_true rfl), (Nat.le_of_ble_eq_true rfl)⟩ (by omega) (fun v k9 hp_ => ?_) (fun _ _ hx => hx.elim)
                  obtain ⟨rfl, rfl⟩ := hp_
                  refine kx_V C rfl mv_X13_55 dX13_go_262 ((c_mark W1 W4 ⟨nn.1, nn.2, by show szW T M < 100000; omega⟩ k3)) (by assumption) rfl rfl (Nat.le_of_ble_eq_true rfl) ⟨(Nat.le_of_ble_eq_true rfl), (Nat.le_of_ble_eq_true rfl)⟩ (by omega) (fun v k10 hp_ => ?_) (fun _ _ hx => hx.elim)
                  obtain ⟨rfl, q1, q2, U10⟩ := hp_
                  have UU : Upd kk k10 [o, la, ra, sa] := U.trans U10 (fun x hx => Or.inl (by
                    have hx' : x = o ∨ x = sa := by simpa using hx
                    rcases hx' with z | z <;> simp [z]))
                  have la0 := U10.2 _ _ W2 (by simp [ne_cel W2 W1 ne_oa, W6])
                  have ra0 := U10.2 _ _ W3 (by simp [ne_cel W3 W1 ne_oa, W7])
                  refine k_iinc C dX13_go_265 rfl rfl ?_
                  refine k_goto C dX13_go_268 (tgt := 165) (by decide) ?_
                  exact Wk.sub (by repeat (first | exact trivial | apply Lle.so | apply Lle.no)) (cont k10 ⟨q1, la0, ra0, q2, W5, W6, W7⟩ UU)
        refine k_istore C dX13_go_95 (Nat.le_of_ble_eq_true rfl) rfl ?_
        refine k_iload C dX13_go_97 rfl ?_
        refine k_ifeq_b C dX13_go_99 (tgt := 106) (by decide) (fun g4 => ?_) (fun g3 => ?_)
        rotate_left
        · cases g3
        · refine k_iload_n C dX13_go_106 rfl ?_
          refine k_istore C dX13_go_107 (Nat.le_of_ble_eq_true rfl) rfl ?_
          refine k_iload C dX13_go_109 rfl ?_
          refine k_ifeq_b C dX13_go_111 (tgt := 118) (by decide) (fun g4 => ?_) (fun g3 => ?_)
          rotate_left
          · cases g3
          · refine k_iload_n C dX13_go_118 rfl ?_
            refine k_istore C dX13_go_119 (Nat.le_of_ble_eq_true rfl) rfl ?_
            refine k_aload_n C dX13_go_121 rfl ?_
            refine k_iload C dX13_go_122 rfl ?_
            refine k_ifeq_b C dX13_go_124 (tgt := 134) (by decide) (fun g4 => ?_) (fun g3 => ?_)
            rotate_left
            · cases g3
            · refine k_aload_n C dX13_go_134 rfl ?_
              refine k_get C fg_X13_25 dX13_go_135 (by assumption) (by rfl) ?_
              refine k_iload C dX13_go_138 rfl ?_
              refine kx_V C rfl mv_X13_55 dX13_go_140 ((c_mark ow H.2.2.1 (by omega) gok.2.1)) (by assumption) rfl rfl (Nat.le_of_ble_eq_true rfl) ⟨(Nat.le_of_ble_eq_true rfl), (Nat.le_of_ble_eq_true rfl)⟩ (by omega) (fun v k1 hp_ => ?_) (fun _ _ hx => hx.elim)
              obtain ⟨rfl, q1, q2, U1⟩ := hp_
              have UU1 : Upd kk k1 [o, la, ra, sa] := U1.sub (by simp)
              have W1 : isWn k1 o t la ra sa T n M (mkSide false g (behW M k false)) := ⟨q1, U1.2 _ _ H.2.1 (by simp [ne_cel H.2.1 ow ne_oa, H.2.2.2.2.1]), q2, U1.2 _ _ H.2.2.2.1 (by simp [ne_cel H.2.2.2.1 ow ne_oa, Ne.symm H.2.2.2.2.2.2]), H.2.2.2.2⟩
              have gok1 : GwOk (mkSide false g (behW M k false)) := mkSide_ok gok
              have e61 := UU1.2 _ _ e6 (by simp [ne_cel e6 ow (ne_cls (by decide)), ne_cel e6 H.2.1 ne_ao, ne_cel e6 H.2.2.1 ne_ao, ne_cel e6 H.2.2.2.1 ne_ao])
              have ow1 := W1.1
              refine k_iload C dX13_go_143 rfl ?_
              refine k_iconst C dX13_go_145 ?_
              refine k_ishl C dX13_go_146 (by omega) ?_
              rw [show (2 : Int) ^ (1 : Int).toNat = 2 from rfl]
              refine k_aload C dX13_go_147 rfl ?_
              refine k_getN C fn_X13_59 dX13_go_149 (by assumption) (by rfl) ?_
              refine k_ior C dX13_go_152 (by omega) ?_
              rw [orW hM (by omega) u1]
              refine k_iconst C dX13_go_153 ?_
              refine k_aload_n C dX13_go_154 rfl ?_
              refine k_get C fg_X13_17 dX13_go_155 (by assumption) (by rfl) ?_
              refine k_ishl C dX13_go_158 (by omega) ?_
              rw [p1]
              refine k_irem C dX13_go_159 (by omega) ?_
              refine k_istore C dX13_go_160 (Nat.le_of_ble_eq_true rfl) rfl ?_
              refine k_iconst C dX13_go_162 ?_
              refine k_istore C dX13_go_163 (Nat.le_of_ble_eq_true rfl) rfl ?_
              refine Wk.sub (by repeat (first | exact trivial | apply Lle.so | apply Lle.no)) (step 0 k1 _ (Or.inl rfl) W1 gok1 UU1 (fun k2 W2 UU2 => ?_))
              refine Wk.sub (by repeat (first | exact trivial | apply Lle.so | apply Lle.no)) (step 1 k2 _ (Or.inr rfl) W2 (seeX_ok gok1) UU2 (fun k3 W3 UU3 => ?_))
              refine k_iload C dX13_go_165 rfl ?_
              refine k_iconst C dX13_go_167 ?_
              refine k_icmp_ge C dX13_go_168 (tgt := 271) (by decide) (by omega) (fun g9 => ?_) (fun g10 => ?_)
              · refine k_iconst C dX13_go_271 ?_
                exact k_zret (b := true) C E dX13_go_272 (by omega) ⟨rfl, by rw [eg]; unfold goX; rw [hb]; exact W3, UU3⟩
              · omega
      · -- true
        have hgn := gn_b hM (a := (k / M % M) * 2 + r.1) (by omega)
        have step : ∀ (x : Int) (hh : Hp) (gg : Gw), (x = 0 ∨ x = 1) → isWn hh o t la ra sa T n M gg → GwOk gg → Upd kk hh [o, la, ra, sa] → (∀ hh2 : Hp, isWn hh2 o t la ra sa T n M (seeX M r true (k % M) (((k / M % M) * 2 + r.1) % M) gg x) → Upd kk hh2 [o, la, ra, sa] → Wk w K hh2 0 0 165 [some (.ref o), some (jI k), some (jI (k % M)), some (jI (k / M % M)), some (jI (k / ((M : Int) * M) % 2)), some (jI (k / (2 * ((M : Int) * M)))), some (.ref a), some (jI (b2i true)), some (jI (k / M % M)), some (jI (k % M)), some (jI ((k / M % M * 2 + r.1) % M)), some (jI (x + 1)), none] []) → Wk w K hh 0 0 165 [some (.ref o), some (jI k), some (jI (k % M)), some (jI (k / M % M)), some (jI (k / ((M : Int) * M) % 2)), some (jI (k / (2 * ((M : Int) * M)))), some (.ref a), some (jI (b2i true)), some (jI (k / M % M)), some (jI (k % M)), some (jI ((k / M % M * 2 + r.1) % M)), some (jI x), none] [] := by
          intro x hh gg hx W gok U cont
          have nb := nxt_w hM (a := k % M) (by omega) hx
          obtain ⟨W1, W2, W3, W4, W5, W6, W7⟩ := id W
          obtain ⟨k1, k2, k3⟩ := id gok
          have e6' := U.2 _ _ e6 (by simp [ne_cel e6 ow (ne_cls (by decide)), ne_cel e6 H.2.1 ne_ao, ne_cel e6 H.2.2.1 ne_ao, ne_cel e6 H.2.2.2.1 ne_ao])
          have hM2 : 0 ≤ (M : Int) / 2 ∧ (M : Int) / 2 ≤ 4 := by omega
          have hxM : 0 ≤ x * ((M : Int) / 2) ∧ x * ((M : Int) / 2) ≤ 4 := by rcases hx with rfl | rfl <;> omega
          refine k_iload C dX13_go_165 rfl ?_
          refine k_iconst C dX13_go_167 ?_
          refine k_icmp_ge C dX13_go_168 (tgt := 271) (by decide) (by omega) (fun g1 => ?_) (fun g2 => ?_)
          · omega
          · refine k_iload C dX13_go_171 rfl ?_
            refine k_iconst C dX13_go_173 ?_
            refine k_ishr C dX13_go_174 (by omega) ?_
            rw [show (2 : Int) ^ (1 : Int).toNat = 2 from rfl]
            refine k_iload C dX13_go_175 rfl ?_
            refine k_aload_n C dX13_go_177 rfl ?_
            refine k_get C fg_X13_17 dX13_go_178 (by assumption) (by rfl) ?_
            refine k_iconst C dX13_go_181 ?_
            refine k_isub C dX13_go_182 ?_
            refine k_ishl C dX13_go_183 (by omega) ?_
            rw [p5]
            refine k_ior C dX13_go_184 (by omega) ?_
            rw [orN hM (by omega) hx]
            refine k_istore C dX13_go_185 (Nat.le_of_ble_eq_true rfl) rfl ?_
            refine k_iload C dX13_go_187 rfl ?_
            have v1 := k2 (k % M / 2 + x * ((M : Int) / 2))
            refine k_ifeq_b C dX13_go_189 (tgt := 205) (by decide) (fun g3 => ?_) (fun g4 => ?_)
            · cases g3
            · refine k_aload_n C dX13_go_192 rfl ?_
              refine k_get C fg_X13_25 dX13_go_193 (by assumption) (by rfl) ?_
              refine k_iload C dX13_go_196 rfl ?_
              refine k_zald C dX13_go_198 (by assumption) (by omega) ?_
              refine k_if_eq C dX13_go_199 (tgt := 265) (by decide) (by omega) (fun g5 => ?_) (fun g6 => ?_)
              · refine k_iinc C dX13_go_265 rfl rfl ?_
                refine k_goto C dX13_go_268 (tgt := 165) (by decide) ?_
                have es : seeX M r true (k % M) (((k / M % M) * 2 + r.1) % M) gg x = gg := by unfold seeX sideOf; rw [if_pos (show (if true = true then gg.rg else gg.lf) (k % M / 2 + x * ((M : Int) / 2)) = 0 from g5)]
                rw [es] at cont
                exact Wk.sub (by repeat (first | exact trivial | apply Lle.so | apply Lle.no)) (cont hh W U)
              · have es : seeX M r true (k % M) (((k / M % M) * 2 + r.1) % M) gg x = mkSeen gg (numW M r.2.2 (k % M % 2) (((k / M % M) * 2 + r.1) % M) (k % M / 2 + x * ((M : Int) / 2))) := by unfold seeX sideOf; rw [if_neg (show ¬ (if true = true then gg.rg else gg.lf) (k % M / 2 + x * ((M : Int) / 2)) = 0 from g6)]; rfl
                rw [es] at cont
                have nn := num_b hM (S := T.1) (s := r.2.2) (b := k % M % 2) (l := ((k / M % M) * 2 + r.1) % M) (r := k % M / 2 + x * ((M : Int) / 2)) (by omega) (by omega) (by omega) (by omega)
                refine k_goto C dX13_go_202 (tgt := 215) (by decide) ?_
                refine k_aload_n C dX13_go_215 rfl ?_
                refine k_aload_n C dX13_go_216 rfl ?_
                refine k_get C fg_X13_33 dX13_go_217 (by assumption) (by rfl) ?_
                refine k_iload C dX13_go_220 rfl ?_
                refine k_ifeq_b C dX13_go_222 (tgt := 245) (by decide) (fun g7 => ?_) (fun g8 => ?_)
                · cases g7
                · refine k_aload_n C dX13_go_225 rfl ?_
                  refine k_aload C dX13_go_226 rfl ?_
                  refine k_getN C fn_X13_62 dX13_go_228 (by assumption) (by rfl) ?_
                  refine k_iload C dX13_go_231 rfl ?_
                  refine k_iconst C dX13_go_233 ?_
                  refine k_irem C dX13_go_234 (by omega) ?_
                  refine k_iload C dX13_go_235 rfl ?_
                  refine k_iload C dX13_go_237 rfl ?_
                  refine kx_V C rfl mv_X13_65 dX13_go_239 ((c_number hM W1)) (by assumption) rfl rfl (Nat.le_of_ble_eq_true rfl) ⟨(Nat.le_of_ble_eq_true rfl), (Nat.le_of_ble_eq_true rfl)⟩ (by omega) (fun v k9 hp_ => ?_) (fun _ _ hx => hx.elim)
                  obtain ⟨rfl, rfl⟩ := hp_
                  refine k_goto C dX13_go_242 (tgt := 262) (by decide) ?_
                  refine kx_V C rfl mv_X13_55 dX13_go_262 ((c_mark W1 W4 ⟨nn.1, nn.2, by show szW T M < 100000; omega⟩ k3)) (by assumption) rfl rfl (Nat.le_of_ble_eq_true rfl) ⟨(Nat.le_of_ble_eq_true rfl), (Nat.le_of_ble_eq_true rfl)⟩ (by omega) (fun v k10 hp_ => ?_) (fun _ _ hx => hx.elim)
                  obtain ⟨rfl, q1, q2, U10⟩ := hp_
                  have UU : Upd kk k10 [o, la, ra, sa] := U.trans U10 (fun x hx => Or.inl (by
                    have hx' : x = o ∨ x = sa := by simpa using hx
                    rcases hx' with z | z <;> simp [z]))
                  have la0 := U10.2 _ _ W2 (by simp [ne_cel W2 W1 ne_oa, W6])
                  have ra0 := U10.2 _ _ W3 (by simp [ne_cel W3 W1 ne_oa, W7])
                  refine k_iinc C dX13_go_265 rfl rfl ?_
                  refine k_goto C dX13_go_268 (tgt := 165) (by decide) ?_
                  exact Wk.sub (by repeat (first | exact trivial | apply Lle.so | apply Lle.no)) (cont k10 ⟨q1, la0, ra0, q2, W5, W6, W7⟩ UU)
        refine k_istore C dX13_go_95 (Nat.le_of_ble_eq_true rfl) rfl ?_
        refine k_iload C dX13_go_97 rfl ?_
        refine k_ifeq_b C dX13_go_99 (tgt := 106) (by decide) (fun g3 => ?_) (fun g4 => ?_)
        · cases g3
        · refine k_iload_n C dX13_go_102 rfl ?_
          refine k_goto C dX13_go_103 (tgt := 107) (by decide) ?_
          refine k_istore C dX13_go_107 (Nat.le_of_ble_eq_true rfl) rfl ?_
          refine k_iload C dX13_go_109 rfl ?_
          refine k_ifeq_b C dX13_go_111 (tgt := 118) (by decide) (fun g3 => ?_) (fun g4 => ?_)
          · cases g3
          · refine k_iload_n C dX13_go_114 rfl ?_
            refine k_goto C dX13_go_115 (tgt := 119) (by decide) ?_
            refine k_istore C dX13_go_119 (Nat.le_of_ble_eq_true rfl) rfl ?_
            refine k_aload_n C dX13_go_121 rfl ?_
            refine k_iload C dX13_go_122 rfl ?_
            refine k_ifeq_b C dX13_go_124 (tgt := 134) (by decide) (fun g3 => ?_) (fun g4 => ?_)
            · cases g3
            · refine k_aload_n C dX13_go_127 rfl ?_
              refine k_get C fg_X13_21 dX13_go_128 (by assumption) (by rfl) ?_
              refine k_goto C dX13_go_131 (tgt := 138) (by decide) ?_
              refine k_iload C dX13_go_138 rfl ?_
              refine kx_V C rfl mv_X13_55 dX13_go_140 ((c_mark ow H.2.1 (by omega) gok.1)) (by assumption) rfl rfl (Nat.le_of_ble_eq_true rfl) ⟨(Nat.le_of_ble_eq_true rfl), (Nat.le_of_ble_eq_true rfl)⟩ (by omega) (fun v k1 hp_ => ?_) (fun _ _ hx => hx.elim)
              obtain ⟨rfl, q1, q2, U1⟩ := hp_
              have UU1 : Upd kk k1 [o, la, ra, sa] := U1.sub (by simp)
              have W1 : isWn k1 o t la ra sa T n M (mkSide true g (behW M k true)) := ⟨q1, q2, U1.2 _ _ H.2.2.1 (by simp [ne_cel H.2.2.1 ow ne_oa, Ne.symm H.2.2.2.2.1]), U1.2 _ _ H.2.2.2.1 (by simp [ne_cel H.2.2.2.1 ow ne_oa, Ne.symm H.2.2.2.2.2.1]), H.2.2.2.2⟩
              have gok1 : GwOk (mkSide true g (behW M k true)) := mkSide_ok gok
              have e61 := UU1.2 _ _ e6 (by simp [ne_cel e6 ow (ne_cls (by decide)), ne_cel e6 H.2.1 ne_ao, ne_cel e6 H.2.2.1 ne_ao, ne_cel e6 H.2.2.2.1 ne_ao])
              have ow1 := W1.1
              refine k_iload C dX13_go_143 rfl ?_
              refine k_iconst C dX13_go_145 ?_
              refine k_ishl C dX13_go_146 (by omega) ?_
              rw [show (2 : Int) ^ (1 : Int).toNat = 2 from rfl]
              refine k_aload C dX13_go_147 rfl ?_
              refine k_getN C fn_X13_59 dX13_go_149 (by assumption) (by rfl) ?_
              refine k_ior C dX13_go_152 (by omega) ?_
              rw [orW hM (by omega) u1]
              refine k_iconst C dX13_go_153 ?_
              refine k_aload_n C dX13_go_154 rfl ?_
              refine k_get C fg_X13_17 dX13_go_155 (by assumption) (by rfl) ?_
              refine k_ishl C dX13_go_158 (by omega) ?_
              rw [p1]
              refine k_irem C dX13_go_159 (by omega) ?_
              refine k_istore C dX13_go_160 (Nat.le_of_ble_eq_true rfl) rfl ?_
              refine k_iconst C dX13_go_162 ?_
              refine k_istore C dX13_go_163 (Nat.le_of_ble_eq_true rfl) rfl ?_
              refine Wk.sub (by repeat (first | exact trivial | apply Lle.so | apply Lle.no)) (step 0 k1 _ (Or.inl rfl) W1 gok1 UU1 (fun k2 W2 UU2 => ?_))
              refine Wk.sub (by repeat (first | exact trivial | apply Lle.so | apply Lle.no)) (step 1 k2 _ (Or.inr rfl) W2 (seeX_ok gok1) UU2 (fun k3 W3 UU3 => ?_))
              refine k_iload C dX13_go_165 rfl ?_
              refine k_iconst C dX13_go_167 ?_
              refine k_icmp_ge C dX13_go_168 (tgt := 271) (by decide) (by omega) (fun g9 => ?_) (fun g10 => ?_)
              · refine k_iconst C dX13_go_271 ?_
                exact k_zret (b := true) C E dX13_go_272 (by omega) ⟨rfl, by rw [eg]; unfold goX; rw [hb]; exact W3, UU3⟩
              · omega
    refine k_castO C ck_X13_50_6 dX13_go_77 (by assumption) ?_
    refine k_astore C dX13_go_80 (Nat.le_of_ble_eq_true rfl) rfl ?_
    refine k_aload C dX13_go_82 rfl ?_
    refine k_getN C fn_X13_52 dX13_go_84 (by assumption) (by rfl) ?_
    refine k_if_le C dX13_go_87 (tgt := 94) (by decide) (by omega) (fun g1 => ?_) (fun g2 => ?_)
    · refine k_iconst C dX13_go_94 ?_
      exact rest false (decide_eq_false (by omega))
    · refine k_iconst C dX13_go_90 ?_
      refine k_goto C dX13_go_91 (tgt := 95) (by decide) ?_
      exact rest true (decide_eq_true (by omega))
