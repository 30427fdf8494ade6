/-! ===== windows: the closing ===== -/
set_option maxRecDepth 100000
theorem closeF_no {T : Tb} {M f : Nat} {g : Gw} (h : g.gr = false) : closeF T M f g = true := by
  cases f with
  | zero => rfl
  | succ f => unfold closeF; rw [h]; rfl
theorem closeF_end {T : Tb} {M f : Nat} {g : Gw} (h : g.gr = true) (e : passW T M (szW T M) 0 (g.lf, g.rg, g.sn, false) = none) : closeF T M (f + 1) g = false := by
  unfold closeF; rw [h, e]; rfl
theorem closeF_on {T : Tb} {M f : Nat} {g g' : Gw} (h : g.gr = true) (e : passW T M (szW T M) 0 (g.lf, g.rg, g.sn, false) = some g') : closeF T M (f + 1) g = closeF T M f g' := by
  rw [closeF, h, e]; rfl
theorem passW_skip {T : Tb} {M : Int} {d : Nat} {k : Int} {g : Gw} (h : g.sn k = 0) : passW T M (d + 1) k g = passW T M d (k + 1) g := by rw [passW, if_pos h]
theorem passW_none {T : Tb} {M : Int} {d : Nat} {k : Int} {g : Gw} (h : ¬ g.sn k = 0) (e : goW T M g k = none) : passW T M (d + 1) k g = none := by rw [passW, if_neg h, e]
theorem passW_some {T : Tb} {M : Int} {d : Nat} {k : Int} {g g' : Gw} (h : ¬ g.sn k = 0) (e : goW T M g k = some g') : passW T M (d + 1) k g = passW T M d (k + 1) g' := by rw [passW, if_neg h, e]
theorem c_close {w : Wd} {h : Hp} {o t la ra sa lst ar0 n M fu : Nat} {T : Tb} {g : Gw} (hM : isM n M) (H : isWn h o t la ra sa T n M g) (gok : GwOk g) (G : isTb w h t lst ar0 T) (hT : TbOk T) (hf : g.gr = true → zerG M (szW T M) g < fu) : Ct w yX13_close (ws_ yX13_close cX13_close 2 (some FieldType.boolean)) 6 140 0 0 [.ref o] h (fun v h' => v = some (jI (b2i (closeF T M fu g))) ∧ Upd h h' [o, la, ra, sa]) NoX := by
  obtain ⟨z1, z2, z3⟩ := szW_b hT hM
  refine Ct.of (by decide) [some (.ref o), none] rfl (Nat.le_of_ble_eq_true rfl) (fun K C E N0 => ?_)
  generalize hres : closeF T M fu g = res at *
  have outer : ∀ (f : Nat) (hh : Hp) (gg : Gw), isWn hh o t la ra sa T n M gg → GwOk gg → (gg.gr = true → zerG M (szW T M) gg < f) → Upd h hh [o, la, ra, sa] → closeF T M f gg = res → Wk w K hh 0 0 0 [some (.ref o), none] [] := by
    intro f
    induction f with
    | zero =>
      intro hh gg W ok hz U hr
      have W1 := W.1
      refine k_aload_n C dX13_close_0 rfl ?_
      refine k_get C fg_X13_7 dX13_close_1 (by assumption) (by rfl) ?_
      refine k_ifeq_b C dX13_close_4 (tgt := 51) (by decide) (fun g1 => ?_) (fun g2 => ?_)
      · refine k_iconst C dX13_close_51 ?_
        rw [closeF_no g1] at hr
        exact k_zret (b := true) C E dX13_close_52 (by omega) ⟨by rw [hr], U⟩
      · exact absurd (hz g2) (by omega)
    | succ f ih =>
      intro hh gg W ok hz U hr
      have W1 := W.1
      refine k_aload_n C dX13_close_0 rfl ?_
      refine k_get C fg_X13_7 dX13_close_1 (by assumption) (by rfl) ?_
      refine k_ifeq_b C dX13_close_4 (tgt := 51) (by decide) (fun g1 => ?_) (fun g2 => ?_)
      · refine k_iconst C dX13_close_51 ?_
        rw [closeF_no g1] at hr
        exact k_zret (b := true) C E dX13_close_52 (by omega) ⟨by rw [hr], U⟩
      · have hz' := hz g2
        refine k_aload_n C dX13_close_7 rfl ?_
        refine k_iconst C dX13_close_8 ?_
        refine k_put C fg_X13_7 ft_12_5 dX13_close_9 (by assumption) rfl rfl rfl (fun h1 P1 => ?_)
        have W' : isWn h1 o t la ra sa T n M (gg.lf, gg.rg, gg.sn, false) := by
          obtain ⟨w1, w2, w3, w4, w5⟩ := W
          exact ⟨P1.2.1, P1.2.2 _ _ w2 (ne_cel w2 w1 ne_oa), P1.2.2 _ _ w3 (ne_cel w3 w1 ne_oa), P1.2.2 _ _ w4 (ne_cel w4 w1 ne_oa), w5⟩
        have U' : Upd h h1 [o, la, ra, sa] := U.trans P1.upd (fun x hx => Or.inl (by simpa using Or.inl (by simpa using hx)))
        have L0 : Less M (szW T M) (zerG M (szW T M) gg) (gg.lf, gg.rg, gg.sn, false) := ⟨Nat.le_refl _, fun z => by cases z⟩
        have inner : ∀ (d k : Nat) (hh : Hp) (g3 : Gw), k + d = szW T M → isWn hh o t la ra sa T n M g3 → GwOk g3 → Less M (szW T M) (zerG M (szW T M) gg) g3 → Upd h hh [o, la, ra, sa] → passW T M (szW T M) 0 (gg.lf, gg.rg, gg.sn, false) = passW T M d k g3 → Wk w K hh 0 0 14 [some (.ref o), some (jI (k : Nat))] [] := by
          intro d
          induction d with
          | zero =>
            intro k hh g3 hk W ok L U hp
            have W1 := W.1
            have W4 := W.2.2.2.1
            rw [closeF_on g2 hp] at hr
            refine k_iload_n C dX13_close_14 rfl ?_
            refine k_aload_n C dX13_close_15 rfl ?_
            refine k_get C fg_X13_33 dX13_close_16 (by assumption) (by rfl) ?_
            refine k_alen C dX13_close_19 (by assumption) (by rfl) ?_
            refine k_icmp_ge C dX13_close_20 (tgt := 48) (by decide) (by omega) (fun g5 => ?_) (fun g6 => ?_)
            · refine k_goto C dX13_close_48 (tgt := 0) (by decide) ?_
              exact Wk.sub (by repeat (first | exact trivial | apply Lle.so | apply Lle.no)) (ih hh g3 W ok (fun z => by have := L.2 z; omega) U hr)
            · omega
          | succ d ihd =>
            intro k hh g3 hk W ok L U hp
            have W1 := W.1
            have W4 := W.2.2.2.1
            have s01 := ok.2.2 (k : Int)
            refine k_iload_n C dX13_close_14 rfl ?_
            refine k_aload_n C dX13_close_15 rfl ?_
            refine k_get C fg_X13_33 dX13_close_16 (by assumption) (by rfl) ?_
            refine k_alen C dX13_close_19 (by assumption) (by rfl) ?_
            refine k_icmp_ge C dX13_close_20 (tgt := 48) (by decide) (by omega) (fun g5 => ?_) (fun g6 => ?_)
            · omega
            · refine k_aload_n C dX13_close_23 rfl ?_
              refine k_get C fg_X13_33 dX13_close_24 (by assumption) (by rfl) ?_
              refine k_iload_n C dX13_close_27 rfl ?_
              refine k_zald C dX13_close_28 (by assumption) (by omega) ?_
              refine k_if_eq C dX13_close_29 (tgt := 42) (by decide) (by omega) (fun g7 => ?_) (fun g8 => ?_)
              · refine k_iinc C dX13_close_42 rfl rfl ?_
                refine k_goto C dX13_close_45 (tgt := 14) (by decide) ?_
                rw [passW_skip g7] at hp
                exact Wk.sub (by repeat (first | exact trivial | apply Lle.so | apply Lle.no)) (ihd (k + 1) hh g3 (by omega) W ok L U hp)
              · refine k_aload_n C dX13_close_32 rfl ?_
                refine k_iload_n C dX13_close_33 rfl ?_
                have G' := H.tb U G
                cases hg : goW T M g3 (k : Int) with
                | none =>
                  rw [passW_none g8 hg] at hp
                  rw [closeF_end g2 hp] at hr
                  refine kx_V C rfl mv_X13_69 dX13_close_34 ((c_goN hM W G' hT (by omega) (by omega) hg)) (by assumption) rfl rfl (Nat.le_of_ble_eq_true rfl) ⟨(Nat.le_of_ble_eq_true rfl), (Nat.le_of_ble_eq_true rfl)⟩ (by omega) (fun v k1 hp_ => ?_) (fun _ _ hx => hx.elim)
                  obtain ⟨rfl, rfl⟩ := hp_
                  refine k_ifne_b C dX13_close_37 (tgt := 42) (by decide) (fun g9 => by cases g9) (fun g9 => ?_)
                  refine k_iconst C dX13_close_40 ?_
                  exact k_zret (b := false) C E dX13_close_41 (by omega) ⟨by rw [hr], U⟩
                | some g4 =>
                  rw [passW_some g8 hg] at hp
                  refine kx_V C rfl mv_X13_69 dX13_close_34 ((c_goS hM W ok G' hT (by omega) (by omega) hg)) (by assumption) rfl rfl (Nat.le_of_ble_eq_true rfl) ⟨(Nat.le_of_ble_eq_true rfl), (Nat.le_of_ble_eq_true rfl)⟩ (by omega) (fun v k1 hp_ => ?_) (fun _ _ hx => hx.elim)
                  obtain ⟨rfl, W2, U2⟩ := hp_
                  refine k_ifne_b C dX13_close_37 (tgt := 42) (by decide) (fun g9 => ?_) (fun g9 => by cases g9)
                  refine k_iinc C dX13_close_42 rfl rfl ?_
                  refine k_goto C dX13_close_45 (tgt := 14) (by decide) ?_
                  exact Wk.sub (by repeat (first | exact trivial | apply Lle.so | apply Lle.no)) (ihd (k + 1) k1 g4 (by omega) W2 (goW_ok ok hg) (goW_less hT hM (by omega) (by omega) L hg) (U.trans U2 (fun x hx => Or.inl hx)) hp)
        refine k_iconst C dX13_close_12 ?_
        refine k_istore_n C dX13_close_13 (Nat.le_of_ble_eq_true rfl) rfl ?_
        exact inner (szW T M) 0 h1 _ (by omega) W' ok L0 U' rfl
  exact outer fu h g H gok hf ⟨Nat.le_refl _, fun _ _ e _ => e⟩ hres
theorem g0_ok : GwOk g0 := ⟨is01.st (fun _ => Or.inl rfl) 0, is01.st (fun _ => Or.inl rfl) 0, is01.st (fun _ => Or.inl rfl) 0⟩
theorem g0_less {T : Tb} (hT : TbOk T) {n M : Nat} (hM : isM n M) : zerG M (szW T M) g0 < 600 := by
  obtain ⟨z1, z2, z3⟩ := szW_b hT hM
  have := cntZ_le g0.lf M
  have := cntZ_le g0.rg M
  have := cntZ_le g0.sn (szW T M)
  have hn : M ≤ 8 := by rcases hM with ⟨rfl, rfl⟩ | ⟨rfl, rfl⟩ | ⟨rfl, rfl⟩ <;> omega
  unfold zerG
  omega
theorem isM_pow {n : Nat} (h : 1 ≤ n ∧ n ≤ 3) : isM n (2 ^ n) := by
  obtain rfl | rfl | rfl : n = 1 ∨ n = 2 ∨ n = 3 := by omega
  · exact Or.inl ⟨rfl, rfl⟩
  · exact Or.inr (Or.inl ⟨rfl, rfl⟩)
  · exact Or.inr (Or.inr ⟨rfl, rfl⟩)
theorem c_gramTakes {w : Wd} {h : Hp} {x t lst ar0 n : Nat} {T : Tb} {b : Int} (hn : 1 ≤ n ∧ n ≤ 3) (G : isTb w h t lst ar0 T) (hT : TbOk T) : CtC w yX19_takes (ws_ yX19_takes cX19_takes 4 (some FieldType.boolean)) 7 161 4 534 [.ref x, .ref t, jI (n : Nat), jI b] h (fun v h' => v = some (jI (b2i (gramB T n))) ∧ Ext h h') NoX := by
  have hM := isM_pow hn
  obtain ⟨z1, z2, z3⟩ := szW_b hT hM
  have hM8 : 2 ^ n ≤ 8 ∧ (T.1 * 2 * 2 ^ n * 2 ^ n = szW T (2 ^ n)) := ⟨by rcases hM with ⟨-, e⟩ | ⟨-, e⟩ | ⟨-, e⟩ <;> omega, rfl⟩
  refine CtC.of (by decide) [some (.ref x), some (.ref t), some (jI (n : Nat)), some (jI b)] rfl (Nat.le_of_ble_eq_true rfl) (fun K C E N0 => ?_)
  refine k_new C nw_X19_9 dX19_takes_0 (by omega) (fun o h1 N1 => ?_)
  have o1 := N1.2.1
  refine k_dup C dX19_takes_3 rfl ?_
  refine k_aload_n C dX19_takes_4 rfl ?_
  refine k_iload_n C dX19_takes_5 rfl ?_
  refine kx_I C rfl mi_X19_11 dX19_takes_6 ((c_winInit hM (G.ext N1.2.2.1) hT o1)) rfl rfl (Nat.le_of_ble_eq_true rfl) ⟨(Nat.le_of_ble_eq_true rfl), (Nat.le_of_ble_eq_true rfl)⟩ (by omega) (fun v h2 hp_ => ?_) (fun _ _ hx => hx.elim)
  obtain ⟨rfl, la, ra, sa, la0, ra0, sa0, W2, U2⟩ := hp_
  have W21 := W2.1
  have E2 := U2.ext0 N1.2.2.1 (by simpa using N1.1)
  refine kx_V C rfl mv_X19_14 dX19_takes_9 ((c_close (fu := 600) hM W2 g0_ok (G.ext E2) hT (fun _ ↦ g0_less hT hM))) (by assumption) rfl rfl (Nat.le_of_ble_eq_true rfl) ⟨(Nat.le_of_ble_eq_true rfl), (Nat.le_of_ble_eq_true rfl)⟩ (by omega) (fun v h3 hp_ => ?_) (fun _ _ hx => hx.elim)
  obtain ⟨rfl, U3⟩ := hp_
  have E3 := U3.ext0 E2 (by simp [N1.1, N1.2.2.1.old la0, N1.2.2.1.old ra0, N1.2.2.1.old sa0])
  exact k_zret (b := gramB T n) C E dX19_takes_12 (by omega) ⟨rfl, E3⟩
