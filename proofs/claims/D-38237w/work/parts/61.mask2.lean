/-! ===== what is asked of the model ===== -/
set_option maxRecDepth 100000
theorem c_matX {w : Wd} {h : Hp} {m : Nat} {L : ML} {σ : Sg} {th i t p : Int} {s : Int64} (H : isMo w h m L σ th s) (hσ : SgOk σ) (hi : i32 i) (ht : i32 t) (hp : i32 p) : Ct w yX3_at (ws_ yX3_at cX3_at 4 (some FieldType.int)) 4 87 3 1020 [.ref m, jI i, jI t, jI p] h (qPost w h m L σ s (atK σ i t p) (atC (runN (σ.ms i.toNat).1 t.toNat c0) p)) NoX := by
  have hm := H.1
  unfold atK
  refine Ct.of (by decide) [some (.ref m), some (jI i), some (jI t), some (jI p)] rfl (Nat.le_of_ble_eq_true rfl) (fun K C E N0 => ?_)
  refine k_aload_n C dX3_at_0 rfl ?_
  refine k_iconst C dX3_at_1 ?_
  refine k_put C fg_X3_19 ft_2_0 dX3_at_2 (by assumption) rfl rfl rfl (fun h1 P1 => ?_)
  have H1 := H.own P1
  have hm1 := H1.1
  have U1 := P1.upd
  refine k_aload_n C dX3_at_5 rfl ?_
  refine k_iload_n C dX3_at_6 rfl ?_
  refine kx_V C rfl mv_X3_44 dX3_at_7 ((c_mIsMachine H1 hσ hi)) (by assumption) rfl rfl (Nat.le_of_ble_eq_true rfl) ⟨(Nat.le_of_ble_eq_true rfl), (Nat.le_of_ble_eq_true rfl)⟩ (by omega) (fun v k1 hp_ => ?_) (fun _ _ hx => hx.elim)
  obtain ⟨rfl, rfl⟩ := hp_
  cases hok : mchOk σ i with
  | false =>
    refine k_ifne_b C dX3_at_10 (tgt := 19) (by decide) (fun z => by cases z) (fun _ => ?_)
    rw [hok] at E
    refine k_aload_n C dX3_at_13 rfl ?_
    refine k_iconst C dX3_at_14 ?_
    refine kx_V C rfl mv_X3_31 dX3_at_15 ((c_mRefuse (z := 1) H1)) (by assumption) rfl rfl (Nat.le_of_ble_eq_true rfl) ⟨(Nat.le_of_ble_eq_true rfl), (Nat.le_of_ble_eq_true rfl)⟩ (by omega) (fun v h2 hp_ => ?_) (fun _ _ hx => hx.elim)
    obtain ⟨rfl, H2, U2⟩ := hp_
    exact k_iret C E dX3_at_18 (by omega) ⟨H2, U1.trans U2 (fun x hx => Or.inl hx), 0, rfl, fun z => (by cases z)⟩
  | true =>
    refine k_ifne_b C dX3_at_10 (tgt := 19) (by decide) (fun _ => ?_) (fun z => by cases z)
    rw [hok] at E
    rw [if_pos rfl] at E
    obtain ⟨f, A, hin, hf, M⟩ := H1.at hok
    have mok := hσ.2.2.1 i.toNat (by omega)
    have l1 := A.1
    have M1 := M.1
    refine k_iload_n C dX3_at_19 rfl ?_
    refine k_iconst C dX3_at_20 ?_
    refine k_sipush C dX3_at_21 (by decide) ?_
    refine kx_S C rfl ms_X3_27 dX3_at_24 ((c_is (v := t) (a := 0) (b := 500) (by unfold i32 at *; omega))) rfl rfl (Nat.le_of_ble_eq_true rfl) ⟨(Nat.le_of_ble_eq_true rfl), (Nat.le_of_ble_eq_true rfl)⟩ (by omega) (fun v k1 hp_ => ?_) (fun _ _ hx => hx.elim)
    obtain ⟨rfl, rfl⟩ := hp_
    by_cases h1t : 0 ≤ t ∧ t ≤ 500
    · rw [decide_eq_true h1t]
      refine k_ifeq_b C dX3_at_27 (tgt := 62) (by decide) (fun z => by cases z) (fun _ => ?_)
      refine k_iload_n C dX3_at_30 rfl ?_
      refine k_iconst C dX3_at_31 ?_
      refine k_bipush C dX3_at_32 (by decide) ?_
      refine kx_S C rfl ms_X3_27 dX3_at_34 ((c_is (v := p) (a := 0) (b := 7) (by unfold i32 at *; omega))) rfl rfl (Nat.le_of_ble_eq_true rfl) ⟨(Nat.le_of_ble_eq_true rfl), (Nat.le_of_ble_eq_true rfl)⟩ (by omega) (fun v k1 hp_ => ?_) (fun _ _ hx => hx.elim)
      obtain ⟨rfl, rfl⟩ := hp_
      by_cases h2p : 0 ≤ p ∧ p ≤ 7
      · rw [decide_eq_true h2p]
        rw [if_pos ⟨h1t, h2p⟩] at E
        refine k_ifeq_b C dX3_at_37 (tgt := 62) (by decide) (fun z => by cases z) (fun _ => ?_)
        obtain ⟨S, hS⟩ : ∃ S : Nat, t = (S : Int) := ⟨t.toNat, by omega⟩
        subst hS
        rw [show ((S : Nat) : Int).toNat = S from rfl] at *
        have r1 := runN_c0 mok.1 S
        refine k_aload_n C dX3_at_40 rfl ?_
        refine k_get C fg_X3_10 dX3_at_41 (by assumption) (by rfl) ?_
        refine k_iload_n C dX3_at_44 rfl ?_
        refine kx_V C rfl mv_X3_48 dX3_at_45 ((c_get A hin hf)) (by assumption) rfl rfl (Nat.le_of_ble_eq_true rfl) ⟨(Nat.le_of_ble_eq_true rfl), (Nat.le_of_ble_eq_true rfl)⟩ (by omega) (fun v k1 hp_ => ?_) (fun _ _ hx => hx.elim)
        obtain ⟨rfl, rfl⟩ := hp_
        refine k_castO C ck_X3_35_5 dX3_at_48 (by assumption) ?_
        refine k_iload_n C dX3_at_51 rfl ?_
        refine kx_V C rfl mv_X3_81 dX3_at_52 ((c_run (R := S) (by omega) M mok.1)) (by assumption) rfl rfl (Nat.le_of_ble_eq_true rfl) ⟨(Nat.le_of_ble_eq_true rfl), (Nat.le_of_ble_eq_true rfl)⟩ ⟨by omega, by omega⟩ (fun v h3 hp_ => ?_) (fun _ _ hx => hx.elim)
        obtain ⟨q, tp, rfl, q0, tp0, W3, E3⟩ := hp_
        refine k_iload_n C dX3_at_55 rfl ?_
        refine kx_S C rfl ms_X3_233 dX3_at_56 ((c_mAtNow h2p (by omega) W3 r1.1 r1.2)) rfl rfl (Nat.le_of_ble_eq_true rfl) ⟨(Nat.le_of_ble_eq_true rfl), (Nat.le_of_ble_eq_true rfl)⟩ ⟨by omega, by omega⟩ (fun v h4 hp_ => ?_) (fun _ _ hx => hx.elim)
        obtain ⟨rfl, E4⟩ := hp_
        refine k_goto C dX3_at_59 (tgt := 67) (by decide) ?_
        exact k_iret C E dX3_at_67 ⟨by omega, by omega⟩ ⟨H1.ext (E3.trans E4), U1.trans ((E3.trans E4).upd [m]) (fun x hx => Or.inl hx), _, rfl, fun _ => rfl⟩
      · rw [decide_eq_false h2p]
        rw [if_neg (fun z => h2p z.2)] at E
        refine k_ifeq_b C dX3_at_37 (tgt := 62) (by decide) (fun _ => ?_) (fun z => by cases z)
        refine k_aload_n C dX3_at_62 rfl ?_
        refine k_iconst C dX3_at_63 ?_
        refine kx_V C rfl mv_X3_31 dX3_at_64 ((c_mRefuse (z := 2) H1)) (by assumption) rfl rfl (Nat.le_of_ble_eq_true rfl) ⟨(Nat.le_of_ble_eq_true rfl), (Nat.le_of_ble_eq_true rfl)⟩ (by omega) (fun v h2 hp_ => ?_) (fun _ _ hx => hx.elim)
        obtain ⟨rfl, H2, U2⟩ := hp_
        exact k_iret C E dX3_at_67 (by omega) ⟨H2, U1.trans U2 (fun x hx => Or.inl hx), 0, rfl, fun z => (by cases z)⟩
    · rw [decide_eq_false h1t]
      rw [if_neg (fun z => h1t z.1)] at E
      refine k_ifeq_b C dX3_at_27 (tgt := 62) (by decide) (fun _ => ?_) (fun z => by cases z)
      refine k_aload_n C dX3_at_62 rfl ?_
      refine k_iconst C dX3_at_63 ?_
      refine kx_V C rfl mv_X3_31 dX3_at_64 ((c_mRefuse (z := 2) H1)) (by assumption) rfl rfl (Nat.le_of_ble_eq_true rfl) ⟨(Nat.le_of_ble_eq_true rfl), (Nat.le_of_ble_eq_true rfl)⟩ (by omega) (fun v h2 hp_ => ?_) (fun _ _ hx => hx.elim)
      obtain ⟨rfl, H2, U2⟩ := hp_
      exact k_iret C E dX3_at_67 (by omega) ⟨H2, U1.trans U2 (fun x hx => Or.inl hx), 0, rfl, fun z => (by cases z)⟩
theorem c_msymbolX {w : Wd} {h : Hp} {m : Nat} {L : ML} {σ : Sg} {th i t p : Int} {s : Int64} (H : isMo w h m L σ th s) (hσ : SgOk σ) (hi : i32 i) (ht : i32 t) (hp : i32 p) : Ct w yX3_symbol (ws_ yX3_symbol cX3_symbol 4 (some FieldType.int)) 4 85 3 1020 [.ref m, jI i, jI t, jI p] h (qPost w h m L σ s (symK σ i t p) ((runN (σ.ms i.toNat).1 t.toNat c0).tp p)) NoX := by
  have hm := H.1
  unfold symK
  refine Ct.of (by decide) [some (.ref m), some (jI i), some (jI t), some (jI p)] rfl (Nat.le_of_ble_eq_true rfl) (fun K C E N0 => ?_)
  refine k_aload_n C dX3_symbol_0 rfl ?_
  refine k_iconst C dX3_symbol_1 ?_
  refine k_put C fg_X3_19 ft_2_0 dX3_symbol_2 (by assumption) rfl rfl rfl (fun h1 P1 => ?_)
  have H1 := H.own P1
  have hm1 := H1.1
  have U1 := P1.upd
  refine k_aload_n C dX3_symbol_5 rfl ?_
  refine k_iload_n C dX3_symbol_6 rfl ?_
  refine kx_V C rfl mv_X3_44 dX3_symbol_7 ((c_mIsMachine H1 hσ hi)) (by assumption) rfl rfl (Nat.le_of_ble_eq_true rfl) ⟨(Nat.le_of_ble_eq_true rfl), (Nat.le_of_ble_eq_true rfl)⟩ (by omega) (fun v k1 hp_ => ?_) (fun _ _ hx => hx.elim)
  obtain ⟨rfl, rfl⟩ := hp_
  cases hok : mchOk σ i with
  | false =>
    refine k_ifne_b C dX3_symbol_10 (tgt := 19) (by decide) (fun z => by cases z) (fun _ => ?_)
    rw [hok] at E
    refine k_aload_n C dX3_symbol_13 rfl ?_
    refine k_iconst C dX3_symbol_14 ?_
    refine kx_V C rfl mv_X3_31 dX3_symbol_15 ((c_mRefuse (z := 1) H1)) (by assumption) rfl rfl (Nat.le_of_ble_eq_true rfl) ⟨(Nat.le_of_ble_eq_true rfl), (Nat.le_of_ble_eq_true rfl)⟩ (by omega) (fun v h2 hp_ => ?_) (fun _ _ hx => hx.elim)
    obtain ⟨rfl, H2, U2⟩ := hp_
    exact k_iret C E dX3_symbol_18 (by omega) ⟨H2, U1.trans U2 (fun x hx => Or.inl hx), 0, rfl, fun z => (by cases z)⟩
  | true =>
    refine k_ifne_b C dX3_symbol_10 (tgt := 19) (by decide) (fun _ => ?_) (fun z => by cases z)
    rw [hok] at E
    rw [if_pos rfl] at E
    obtain ⟨f, A, hin, hf, M⟩ := H1.at hok
    have mok := hσ.2.2.1 i.toNat (by omega)
    have l1 := A.1
    have M1 := M.1
    refine k_iload_n C dX3_symbol_19 rfl ?_
    refine k_iconst C dX3_symbol_20 ?_
    refine k_sipush C dX3_symbol_21 (by decide) ?_
    refine kx_S C rfl ms_X3_27 dX3_symbol_24 ((c_is (v := t) (a := 0) (b := 500) (by unfold i32 at *; omega))) rfl rfl (Nat.le_of_ble_eq_true rfl) ⟨(Nat.le_of_ble_eq_true rfl), (Nat.le_of_ble_eq_true rfl)⟩ (by omega) (fun v k1 hp_ => ?_) (fun _ _ hx => hx.elim)
    obtain ⟨rfl, rfl⟩ := hp_
    by_cases h1t : 0 ≤ t ∧ t ≤ 500
    · rw [decide_eq_true h1t]
      refine k_ifeq_b C dX3_symbol_27 (tgt := 65) (by decide) (fun z => by cases z) (fun _ => ?_)
      refine k_iload_n C dX3_symbol_30 rfl ?_
      refine k_sipush C dX3_symbol_31 (by decide) ?_
      refine k_sipush C dX3_symbol_34 (by decide) ?_
      refine kx_S C rfl ms_X3_27 dX3_symbol_37 ((c_is (v := p) (a := -501) (b := 501) (by unfold i32 at *; omega))) rfl rfl (Nat.le_of_ble_eq_true rfl) ⟨(Nat.le_of_ble_eq_true rfl), (Nat.le_of_ble_eq_true rfl)⟩ (by omega) (fun v k1 hp_ => ?_) (fun _ _ hx => hx.elim)
      obtain ⟨rfl, rfl⟩ := hp_
      by_cases h2p : -501 ≤ p ∧ p ≤ 501
      · rw [decide_eq_true h2p]
        rw [if_pos ⟨h1t, h2p⟩] at E
        refine k_ifeq_b C dX3_symbol_40 (tgt := 65) (by decide) (fun z => by cases z) (fun _ => ?_)
        obtain ⟨S, hS⟩ : ∃ S : Nat, t = (S : Int) := ⟨t.toNat, by omega⟩
        subst hS
        rw [show ((S : Nat) : Int).toNat = S from rfl] at *
        have r1 := runN_c0 mok.1 S
        refine k_aload_n C dX3_symbol_43 rfl ?_
        refine k_get C fg_X3_10 dX3_symbol_44 (by assumption) (by rfl) ?_
        refine k_iload_n C dX3_symbol_47 rfl ?_
        refine kx_V C rfl mv_X3_48 dX3_symbol_48 ((c_get A hin hf)) (by assumption) rfl rfl (Nat.le_of_ble_eq_true rfl) ⟨(Nat.le_of_ble_eq_true rfl), (Nat.le_of_ble_eq_true rfl)⟩ (by omega) (fun v k1 hp_ => ?_) (fun _ _ hx => hx.elim)
        obtain ⟨rfl, rfl⟩ := hp_
        refine k_castO C ck_X3_35_5 dX3_symbol_51 (by assumption) ?_
        refine k_iload_n C dX3_symbol_54 rfl ?_
        refine kx_V C rfl mv_X3_81 dX3_symbol_55 ((c_run (R := S) (by omega) M mok.1)) (by assumption) rfl rfl (Nat.le_of_ble_eq_true rfl) ⟨(Nat.le_of_ble_eq_true rfl), (Nat.le_of_ble_eq_true rfl)⟩ ⟨by omega, by omega⟩ (fun v h3 hp_ => ?_) (fun _ _ hx => hx.elim)
        obtain ⟨q, tp, rfl, q0, tp0, W3, E3⟩ := hp_
        have W31 := W3.1
        refine k_iload_n C dX3_symbol_58 rfl ?_
        refine kx_V C rfl mv_X3_144 dX3_symbol_59 ((c_rnAt (by omega) W3 r1.1 (by omega) (by omega))) (by assumption) rfl rfl (Nat.le_of_ble_eq_true rfl) ⟨(Nat.le_of_ble_eq_true rfl), (Nat.le_of_ble_eq_true rfl)⟩ ⟨by omega, by omega⟩ (fun v h4 hp_ => ?_) (fun _ _ hx => hx.elim)
        obtain ⟨rfl, rfl⟩ := hp_
        refine k_goto C dX3_symbol_62 (tgt := 70) (by decide) ?_
        exact k_iret C E dX3_symbol_70 ⟨by omega, by omega⟩ ⟨H1.ext E3, U1.trans (E3.upd [m]) (fun x hx => Or.inl hx), _, rfl, fun _ => rfl⟩
      · rw [decide_eq_false h2p]
        rw [if_neg (fun z => h2p z.2)] at E
        refine k_ifeq_b C dX3_symbol_40 (tgt := 65) (by decide) (fun _ => ?_) (fun z => by cases z)
        refine k_aload_n C dX3_symbol_65 rfl ?_
        refine k_iconst C dX3_symbol_66 ?_
        refine kx_V C rfl mv_X3_31 dX3_symbol_67 ((c_mRefuse (z := 2) H1)) (by assumption) rfl rfl (Nat.le_of_ble_eq_true rfl) ⟨(Nat.le_of_ble_eq_true rfl), (Nat.le_of_ble_eq_true rfl)⟩ (by omega) (fun v h2 hp_ => ?_) (fun _ _ hx => hx.elim)
        obtain ⟨rfl, H2, U2⟩ := hp_
        exact k_iret C E dX3_symbol_70 (by omega) ⟨H2, U1.trans U2 (fun x hx => Or.inl hx), 0, rfl, fun z => (by cases z)⟩
    · rw [decide_eq_false h1t]
      rw [if_neg (fun z => h1t z.1)] at E
      refine k_ifeq_b C dX3_symbol_27 (tgt := 65) (by decide) (fun _ => ?_) (fun z => by cases z)
      refine k_aload_n C dX3_symbol_65 rfl ?_
      refine k_iconst C dX3_symbol_66 ?_
      refine kx_V C rfl mv_X3_31 dX3_symbol_67 ((c_mRefuse (z := 2) H1)) (by assumption) rfl rfl (Nat.le_of_ble_eq_true rfl) ⟨(Nat.le_of_ble_eq_true rfl), (Nat.le_of_ble_eq_true rfl)⟩ (by omega) (fun v h2 hp_ => ?_) (fun _ _ hx => hx.elim)
      obtain ⟨rfl, H2, U2⟩ := hp_
      exact k_iret C E dX3_symbol_70 (by omega) ⟨H2, U1.trans U2 (fun x hx => Or.inl hx), 0, rfl, fun z => (by cases z)⟩
theorem c_mcycleInX {w : Wd} {h : Hp} {m : Nat} {L : ML} {σ : Sg} {th i t : Int} {s : Int64} (H : isMo w h m L σ th s) (hσ : SgOk σ) (hi : i32 i) (ht : i32 t) : Ct w yX3_cycleIn (ws_ yX3_cycleIn cX3_cycleIn 3 (some FieldType.int)) 6 140 3283 83772 [.ref m, jI i, jI t] h (qPost w h m L σ s (cycK σ i t) (cycNow (σ.ms i.toNat).1 t.toNat)) NoX := by
  have hm := H.1
  unfold cycK
  refine Ct.of (by decide) [some (.ref m), some (jI i), some (jI t)] rfl (Nat.le_of_ble_eq_true rfl) (fun K C E N0 => ?_)
  refine k_aload_n C dX3_cycleIn_0 rfl ?_
  refine k_iconst C dX3_cycleIn_1 ?_
  refine k_put C fg_X3_19 ft_2_0 dX3_cycleIn_2 (by assumption) rfl rfl rfl (fun h1 P1 => ?_)
  have H1 := H.own P1
  have hm1 := H1.1
  have U1 := P1.upd
  refine k_aload_n C dX3_cycleIn_5 rfl ?_
  refine k_iload_n C dX3_cycleIn_6 rfl ?_
  refine kx_V C rfl mv_X3_44 dX3_cycleIn_7 ((c_mIsMachine H1 hσ hi)) (by assumption) rfl rfl (Nat.le_of_ble_eq_true rfl) ⟨(Nat.le_of_ble_eq_true rfl), (Nat.le_of_ble_eq_true rfl)⟩ (by omega) (fun v k1 hp_ => ?_) (fun _ _ hx => hx.elim)
  obtain ⟨rfl, rfl⟩ := hp_
  cases hok : mchOk σ i with
  | false =>
    refine k_ifne_b C dX3_cycleIn_10 (tgt := 19) (by decide) (fun z => by cases z) (fun _ => ?_)
    rw [hok] at E
    refine k_aload_n C dX3_cycleIn_13 rfl ?_
    refine k_iconst C dX3_cycleIn_14 ?_
    refine kx_V C rfl mv_X3_31 dX3_cycleIn_15 ((c_mRefuse (z := 1) H1)) (by assumption) rfl rfl (Nat.le_of_ble_eq_true rfl) ⟨(Nat.le_of_ble_eq_true rfl), (Nat.le_of_ble_eq_true rfl)⟩ (by omega) (fun v h2 hp_ => ?_) (fun _ _ hx => hx.elim)
    obtain ⟨rfl, H2, U2⟩ := hp_
    exact k_iret C E dX3_cycleIn_18 (by omega) ⟨H2, U1.trans U2 (fun x hx => Or.inl hx), 0, rfl, fun z => (by cases z)⟩
  | true =>
    refine k_ifne_b C dX3_cycleIn_10 (tgt := 19) (by decide) (fun _ => ?_) (fun z => by cases z)
    rw [hok] at E
    rw [if_pos rfl] at E
    obtain ⟨f, A, hin, hf, M⟩ := H1.at hok
    have mok := hσ.2.2.1 i.toNat (by omega)
    have l1 := A.1
    have M1 := M.1
    refine k_iload_n C dX3_cycleIn_19 rfl ?_
    refine k_iconst C dX3_cycleIn_20 ?_
    refine k_bipush C dX3_cycleIn_21 (by decide) ?_
    refine kx_S C rfl ms_X3_27 dX3_cycleIn_23 ((c_is (v := t) (a := 1) (b := 40) (by unfold i32 at *; omega))) rfl rfl (Nat.le_of_ble_eq_true rfl) ⟨(Nat.le_of_ble_eq_true rfl), (Nat.le_of_ble_eq_true rfl)⟩ (by omega) (fun v k1 hp_ => ?_) (fun _ _ hx => hx.elim)
    obtain ⟨rfl, rfl⟩ := hp_
    by_cases h1t : 1 ≤ t ∧ t ≤ 40
    · rw [decide_eq_true h1t]
      rw [if_pos h1t] at E
      refine k_ifeq_b C dX3_cycleIn_26 (tgt := 47) (by decide) (fun z => by cases z) (fun _ => ?_)
      obtain ⟨S, hS⟩ : ∃ S : Nat, t = (S : Int) := ⟨t.toNat, by omega⟩
      subst hS
      rw [show ((S : Nat) : Int).toNat = S from rfl] at *
      have o1 := out_le (show S ≤ 40 by omega)
      have o2 := mk_num
      have o3 : mkC S ≤ mkC 40 ∧ mkS S ≤ mkS 40 := by unfold mkC mkS; omega
      refine k_aload_n C dX3_cycleIn_29 rfl ?_
      refine k_get C fg_X3_10 dX3_cycleIn_30 (by assumption) (by rfl) ?_
      refine k_iload_n C dX3_cycleIn_33 rfl ?_
      refine kx_V C rfl mv_X3_48 dX3_cycleIn_34 ((c_get A hin hf)) (by assumption) rfl rfl (Nat.le_of_ble_eq_true rfl) ⟨(Nat.le_of_ble_eq_true rfl), (Nat.le_of_ble_eq_true rfl)⟩ (by omega) (fun v k1 hp_ => ?_) (fun _ _ hx => hx.elim)
      obtain ⟨rfl, rfl⟩ := hp_
      refine k_castO C ck_X3_35_5 dX3_cycleIn_37 (by assumption) ?_
      refine k_iload_n C dX3_cycleIn_40 rfl ?_
      refine kx_S C rfl ms_X3_201 dX3_cycleIn_41 ((c_mCycleNow M mok.1 (by omega))) rfl rfl (Nat.le_of_ble_eq_true rfl) ⟨(Nat.le_of_ble_eq_true rfl), (Nat.le_of_ble_eq_true rfl)⟩ (by omega) (fun v h3 hp_ => ?_) (fun _ _ hx => hx.elim)
      obtain ⟨rfl, E3⟩ := hp_
      refine k_goto C dX3_cycleIn_44 (tgt := 52) (by decide) ?_
      exact k_iret C E dX3_cycleIn_52 (by omega) ⟨H1.ext E3, U1.trans (E3.upd [m]) (fun x hx => Or.inl hx), _, rfl, fun _ => rfl⟩
    · rw [decide_eq_false h1t]
      rw [if_neg h1t] at E
      refine k_ifeq_b C dX3_cycleIn_26 (tgt := 47) (by decide) (fun _ => ?_) (fun z => by cases z)
      refine k_aload_n C dX3_cycleIn_47 rfl ?_
      refine k_iconst C dX3_cycleIn_48 ?_
      refine kx_V C rfl mv_X3_31 dX3_cycleIn_49 ((c_mRefuse (z := 2) H1)) (by assumption) rfl rfl (Nat.le_of_ble_eq_true rfl) ⟨(Nat.le_of_ble_eq_true rfl), (Nat.le_of_ble_eq_true rfl)⟩ (by omega) (fun v h2 hp_ => ?_) (fun _ _ hx => hx.elim)
      obtain ⟨rfl, H2, U2⟩ := hp_
      exact k_iret C E dX3_cycleIn_52 (by omega) ⟨H2, U1.trans U2 (fun x hx => Or.inl hx), 0, rfl, fun z => (by cases z)⟩
/-! ### champions -/
theorem chScore_eq (m : Mch) (what : Int) (hw : 0 ≤ what ∧ what ≤ 1) : chScore m what = if kindN m = 0 then machC m (runN m.1 500 c0) (6 + what) else -1 := by
  unfold chScore kindN machC
  cases hk : m.2.1 with
  | none => simp
  | some κ =>
    by_cases e : κ = 0
    · subst e
      rw [if_pos rfl]
      dsimp only
      rw [if_pos (show ((0 : Nat) : Int) = 0 from rfl), if_neg (by omega), if_neg (by omega), if_neg (by omega), if_neg (by omega), if_neg (by omega), if_neg (by omega)]
    · rw [if_neg (fun z => e (Option.some.inj z))]
      dsimp only
      rw [if_neg (by omega)]
theorem c_mChampionNow {w : Wd} {h : Hp} {m : Nat} {L : ML} {σ : Sg} {th what : Int} {s : Int64} (H : isMo w h m L σ th s) (hσ : SgOk σ) (hw : 0 ≤ what ∧ what ≤ 1) : Ct w yX3_championNow (ws_ yX3_championNow cX3_championNow 7 (some FieldType.int)) 6 130 (3 * σ.n) (1020 * σ.n) [.ref m, jI what] h (fun v h' => v = some (jI (chamC σ what)) ∧ Ext h h') NoX := by
  have hn := hσ.1
  refine Ct.of (by decide) [some (.ref m), some (jI what), none, none, none, none, none] rfl (Nat.le_of_ble_eq_true rfl) (fun K C E N0 => ?_)
  have loop : ∀ (d i : Nat) (hh : Hp), i + d = σ.n → Ext h hh → Wk w K hh (3 * i) (1020 * i) 7 [some (.ref m), some (jI what), some (jI (chL σ what i).1), some (jI (chL σ what i).2), some (jI (i : Nat)), none, none] [] := by
    intro d
    induction d with
    | zero =>
      intro i hh hi E1
      have hi' : i = σ.n := by omega
      subst hi'
      have H' := H.ext E1
      have hX := H'.1
      obtain ⟨f, A, F⟩ := H'.2.1
      have l1 := A.1
      refine k_iload C dX3_championNow_7 rfl ?_
      refine k_aload_n C dX3_championNow_9 rfl ?_
      refine k_get C fg_X3_10 dX3_championNow_10 (by assumption) (by rfl) ?_
      refine kx_V C rfl mv_X3_23 dX3_championNow_13 ((c_size l1)) (by assumption) rfl rfl (Nat.le_of_ble_eq_true rfl) ⟨(Nat.le_of_ble_eq_true rfl), (Nat.le_of_ble_eq_true rfl)⟩ (by omega) (fun v kk hp_ => ?_) (fun _ _ hx => hx.elim)
      obtain ⟨rfl, rfl⟩ := hp_
      refine k_icmp_ge C dX3_championNow_16 (tgt := 78) (by decide) (by omega) (fun g1 => ?_) (fun g2 => ?_)
      · refine k_iload_n C dX3_championNow_78 rfl ?_
        exact k_iret C E dX3_championNow_79 (by omega) ⟨rfl, E1⟩
      · omega
    | succ d ih =>
      intro i hh hi E1
      have H' := H.ext E1
      have hX := H'.1
      obtain ⟨f, A, F⟩ := H'.2.1
      have l1 := A.1
      have fi := F i (by omega)
      have M := H'.2.2.2.1 i (by omega)
      have M1 := M.1
      have hok := hσ.2.2.1 i (by omega)
      have b1 := chL_b hσ hw i (by omega)
      have b2 := chScore_b hok hw
      have eq := chScore_eq (σ.ms i) what hw
      have kr : -1 ≤ kindN (σ.ms i) ∧ kindN (σ.ms i) ≤ 4 := by
        have := hok.2.1
        unfold kindN
        cases hk : (σ.ms i).2.1 with
        | none => dsimp only; omega
        | some κ => have := this κ hk; dsimp only; omega
      have tail : ∀ (h2 : Hp) (n k : Nat), Ext h h2 → n ≤ 3 * (i + 1) → k ≤ 1020 * (i + 1) → Wk w K h2 n k 55 [some (.ref m), some (jI what), some (jI (chL σ what i).1), some (jI (chL σ what i).2), some (jI (i : Nat)), some (.ref (L.A i).1), none] [jI (chScore (σ.ms i) what)] := by
        intro h2 n k E2 hn2 hk2
        have e2 : max (chL σ what i).2 (chScore (σ.ms i) what) = (chL σ what (i + 1)).2 := rfl
        have z := ih (i + 1) h2 (by omega) E2
        refine k_istore C dX3_championNow_55 (Nat.le_of_ble_eq_true rfl) rfl ?_
        refine k_iload C dX3_championNow_57 rfl ?_
        refine k_iload_n C dX3_championNow_59 rfl ?_
        refine k_icmp_gt C dX3_championNow_60 (tgt := 66) (by decide) (by omega) (fun g3 => ?_) (fun g4 => ?_)
        · have e1 : (i : Int) = (chL σ what (i + 1)).1 := by show _ = (if (chL σ what i).2 < chScore (σ.ms i) what then (i : Int) else (chL σ what i).1); rw [if_pos (by omega)]
          rw [← e1, ← e2, show max (chL σ what i).2 (chScore (σ.ms i) what) = chScore (σ.ms i) what by omega] at z
          refine k_iload C dX3_championNow_66 rfl ?_
          refine k_istore_n C dX3_championNow_68 (Nat.le_of_ble_eq_true rfl) rfl ?_
          refine k_iload C dX3_championNow_69 rfl ?_
          refine k_istore_n C dX3_championNow_71 (Nat.le_of_ble_eq_true rfl) rfl ?_
          refine k_iinc C dX3_championNow_72 rfl rfl ?_
          refine k_goto C dX3_championNow_75 (tgt := 7) (by decide) ?_
          exact Wk.sub (by repeat (first | exact trivial | apply Lle.so | apply Lle.no)) (Wk.widen (n' := 3 * (i + 1)) (k' := 1020 * (i + 1)) (by omega) (by omega) z)
        · have e1 : (chL σ what i).1 = (chL σ what (i + 1)).1 := by show _ = (if (chL σ what i).2 < chScore (σ.ms i) what then (i : Int) else (chL σ what i).1); rw [if_neg (by omega)]
          rw [← e1, ← e2, show max (chL σ what i).2 (chScore (σ.ms i) what) = (chL σ what i).2 by omega] at z
          refine k_goto C dX3_championNow_63 (tgt := 72) (by decide) ?_
          refine k_iinc C dX3_championNow_72 rfl rfl ?_
          refine k_goto C dX3_championNow_75 (tgt := 7) (by decide) ?_
          exact Wk.sub (by repeat (first | exact trivial | apply Lle.so | apply Lle.no)) (Wk.widen (n' := 3 * (i + 1)) (k' := 1020 * (i + 1)) (by omega) (by omega) z)
      refine k_iload C dX3_championNow_7 rfl ?_
      refine k_aload_n C dX3_championNow_9 rfl ?_
      refine k_get C fg_X3_10 dX3_championNow_10 (by assumption) (by rfl) ?_
      refine kx_V C rfl mv_X3_23 dX3_championNow_13 ((c_size l1)) (by assumption) rfl rfl (Nat.le_of_ble_eq_true rfl) ⟨(Nat.le_of_ble_eq_true rfl), (Nat.le_of_ble_eq_true rfl)⟩ (by omega) (fun v kk hp_ => ?_) (fun _ _ hx => hx.elim)
      obtain ⟨rfl, rfl⟩ := hp_
      refine k_icmp_ge C dX3_championNow_16 (tgt := 78) (by decide) (by omega) (fun g1 => ?_) (fun g2 => ?_)
      · omega
      · refine k_aload_n C dX3_championNow_19 rfl ?_
        refine k_get C fg_X3_10 dX3_championNow_20 (by assumption) (by rfl) ?_
        refine k_iload C dX3_championNow_23 rfl ?_
        refine kx_V C rfl mv_X3_48 dX3_championNow_25 ((c_get A (by omega) fi)) (by assumption) rfl rfl (Nat.le_of_ble_eq_true rfl) ⟨(Nat.le_of_ble_eq_true rfl), (Nat.le_of_ble_eq_true rfl)⟩ (by omega) (fun v kk hp_ => ?_) (fun _ _ hx => hx.elim)
        obtain ⟨rfl, rfl⟩ := hp_
        refine k_castO C ck_X3_35_5 dX3_championNow_28 (by assumption) ?_
        refine k_astore C dX3_championNow_31 (Nat.le_of_ble_eq_true rfl) rfl ?_
        refine k_aload C dX3_championNow_33 rfl ?_
        refine k_getN C fn_X3_175 dX3_championNow_35 (by assumption) (by rfl) ?_
        refine k_if_ne C dX3_championNow_38 (tgt := 54) (by decide) (by omega) (fun g3 => ?_) (fun g4 => ?_)
        · rw [if_neg g3] at eq
          refine k_iconst C dX3_championNow_54 ?_
          rw [← eq]
          exact tail kk _ _ E1 (by omega) (by omega)
        · rw [if_pos g4] at eq
          refine k_aload_n C dX3_championNow_41 rfl ?_
          refine k_aload C dX3_championNow_42 rfl ?_
          refine k_bipush C dX3_championNow_44 (by decide) ?_
          refine k_iload_n C dX3_championNow_46 rfl ?_
          refine k_iadd C dX3_championNow_47 ?_
          refine kx_V C rfl mv_X3_221 dX3_championNow_48 ((c_mOfMachine hX M hok (by omega))) (by assumption) rfl rfl (Nat.le_of_ble_eq_true rfl) ⟨(Nat.le_of_ble_eq_true rfl), (Nat.le_of_ble_eq_true rfl)⟩ (by omega) (fun v k2 hp_ => ?_) (fun _ _ hx => hx.elim)
          obtain ⟨rfl, E2⟩ := hp_
          rw [← eq]
          refine k_goto C dX3_championNow_51 (tgt := 55) (by decide) ?_
          exact tail k2 _ _ (E1.trans E2) (by omega) (by omega)
  refine k_iconst C dX3_championNow_0 ?_
  refine k_istore_n C dX3_championNow_1 (Nat.le_of_ble_eq_true rfl) rfl ?_
  refine k_iconst C dX3_championNow_2 ?_
  refine k_istore_n C dX3_championNow_3 (Nat.le_of_ble_eq_true rfl) rfl ?_
  refine k_iconst C dX3_championNow_4 ?_
  refine k_istore C dX3_championNow_5 (Nat.le_of_ble_eq_true rfl) rfl ?_
  exact loop σ.n 0 h (by omega) (Ext.refl h)
