/-! ===== the model: cell, meets, champion ===== -/
set_option maxRecDepth 100000
theorem cellOk_m {σ : Sg} {i s b : Int} (h : mchOk σ i = false) : cellOk σ i s b = false := by
  unfold mchOk at h
  unfold cellOk
  exact decide_eq_false (fun z => of_decide_eq_false h z.1)
theorem c_mCellX {w : Wd} {h : Hp} {m : Nat} {L : ML} {σ : Sg} {th i t b p : Int} {s : Int64} (H : isMo w h m L σ th s) (hσ : SgOk σ) (hi : i32 i) (ht : i32 t) (hb : i32 b) (hp : i32 p) : Ct w yX3_cell (ws_ yX3_cell cX3_cell 5 (some FieldType.int)) 3 64 0 0 [.ref m, jI i, jI t, jI b, jI p] h (qPost w h m L σ s (cellK σ i t b p) (cellC (σ.ms i.toNat).1 (2 * t + b) p)) NoX := by
  have hm := H.1
  unfold cellK
  have ht' := ht
  have hb' := hb
  unfold i32 at ht' hb'
  refine Ct.of (by decide) [some (.ref m), some (jI i), some (jI t), some (jI b), some (jI p)] rfl (Nat.le_of_ble_eq_true rfl) (fun K C E N0 => ?_)
  refine k_aload_n C dX3_cell_0 rfl ?_
  refine k_iconst C dX3_cell_1 ?_
  refine k_put C fg_X3_19 ft_2_0 dX3_cell_2 (by assumption) rfl rfl rfl (fun h1 P1 => ?_)
  have H1 := H.own P1
  have hm1 := H1.1
  have U1 := P1.upd
  have no : cellOk σ i t b = false → Wk w K h1 0 0 46 [some (.ref m), some (jI i), some (jI t), some (jI b), some (jI p)] [] := by
    intro z
    rw [z] at E
    refine k_aload_n C dX3_cell_46 rfl ?_
    refine k_iconst C dX3_cell_47 ?_
    refine kx_V C rfl mv_X3_31 dX3_cell_48 ((c_mRefuse (z := 1) H1)) (by assumption) rfl rfl (Nat.le_of_ble_eq_true rfl) ⟨(Nat.le_of_ble_eq_true rfl), (Nat.le_of_ble_eq_true rfl)⟩ (by omega) (fun v h2 hp_ => ?_) (fun _ _ hx => hx.elim)
    obtain ⟨rfl, H2, U2⟩ := hp_
    exact k_iret C E dX3_cell_51 (by omega) ⟨H2, U1.trans U2 (fun x hx => Or.inl hx), 0, rfl, fun z => (by cases z)⟩
  refine k_aload_n C dX3_cell_5 rfl ?_
  refine k_iload_n C dX3_cell_6 rfl ?_
  refine kx_V C rfl mv_X3_44 dX3_cell_7 ((c_mIsMachine H1 hσ hi)) (by assumption) rfl rfl (Nat.le_of_ble_eq_true rfl) ⟨(Nat.le_of_ble_eq_true rfl), (Nat.le_of_ble_eq_true rfl)⟩ (by omega) (fun v k1 hp_ => ?_) (fun _ _ hx => hx.elim)
  obtain ⟨rfl, rfl⟩ := hp_
  cases hok : mchOk σ i with
  | false =>
    refine k_ifeq_b C dX3_cell_10 (tgt := 46) (by decide) (fun _ => ?_) (fun z => by cases z)
    exact no (cellOk_m hok)
  | true =>
    refine k_ifeq_b C dX3_cell_10 (tgt := 46) (by decide) (fun z => by cases z) (fun _ => ?_)
    obtain ⟨f, A, hin, hf, M⟩ := H1.at hok
    have mok := hσ.2.2.1 i.toNat (by omega)
    have hT2 := mok.1.2.1
    have l1 := A.1
    have M1 := M.1
    refine k_iload_n C dX3_cell_13 rfl ?_
    refine k_iconst C dX3_cell_14 ?_
    refine k_aload_n C dX3_cell_15 rfl ?_
    refine k_get C fg_X3_10 dX3_cell_16 (by assumption) (by rfl) ?_
    refine k_iload_n C dX3_cell_19 rfl ?_
    refine kx_V C rfl mv_X3_48 dX3_cell_20 ((c_get A hin hf)) (by assumption) rfl rfl (Nat.le_of_ble_eq_true rfl) ⟨(Nat.le_of_ble_eq_true rfl), (Nat.le_of_ble_eq_true rfl)⟩ (by omega) (fun v k1 hp_ => ?_) (fun _ _ hx => hx.elim)
    obtain ⟨rfl, rfl⟩ := hp_
    refine k_castO C ck_X3_35_5 dX3_cell_23 (by assumption) ?_
    refine k_getN C fn_X3_52 dX3_cell_26 (by assumption) (by rfl) ?_
    refine k_iconst C dX3_cell_29 ?_
    refine k_isub C dX3_cell_30 ?_
    refine kx_S C rfl ms_X3_27 dX3_cell_31 ((c_is (v := t) (a := 0) (b := ((σ.ms i.toNat).1.1 : Int) - 1) (by unfold i32; omega))) rfl rfl (Nat.le_of_ble_eq_true rfl) ⟨(Nat.le_of_ble_eq_true rfl), (Nat.le_of_ble_eq_true rfl)⟩ (by omega) (fun v k1 hp_ => ?_) (fun _ _ hx => hx.elim)
    obtain ⟨rfl, rfl⟩ := hp_
    by_cases h1t : 0 ≤ t ∧ t ≤ ((σ.ms i.toNat).1.1 : Int) - 1
    · rw [decide_eq_true h1t]
      refine k_ifeq_b C dX3_cell_34 (tgt := 46) (by decide) (fun z => by cases z) (fun _ => ?_)
      refine k_iload_n C dX3_cell_37 rfl ?_
      refine k_iconst C dX3_cell_38 ?_
      refine k_iconst C dX3_cell_39 ?_
      refine kx_S C rfl ms_X3_27 dX3_cell_40 ((c_is (v := b) (a := 0) (b := 1) (by unfold i32; omega))) rfl rfl (Nat.le_of_ble_eq_true rfl) ⟨(Nat.le_of_ble_eq_true rfl), (Nat.le_of_ble_eq_true rfl)⟩ (by omega) (fun v k1 hp_ => ?_) (fun _ _ hx => hx.elim)
      obtain ⟨rfl, rfl⟩ := hp_
      by_cases h2b : 0 ≤ b ∧ b ≤ 1
      · rw [decide_eq_true h2b]
        refine k_ifne_b C dX3_cell_43 (tgt := 52) (by decide) (fun _ => ?_) (fun z => by cases z)
        have yes : cellOk σ i t b = true := decide_eq_true (by omega)
        rw [yes, if_pos rfl] at E
        refine k_iload C dX3_cell_52 rfl ?_
        refine k_iconst C dX3_cell_54 ?_
        refine k_iconst C dX3_cell_55 ?_
        refine kx_S C rfl ms_X3_27 dX3_cell_56 ((c_is (v := p) (a := 0) (b := 2) (by unfold i32 at *; omega))) rfl rfl (Nat.le_of_ble_eq_true rfl) ⟨(Nat.le_of_ble_eq_true rfl), (Nat.le_of_ble_eq_true rfl)⟩ (by omega) (fun v k1 hp_ => ?_) (fun _ _ hx => hx.elim)
        obtain ⟨rfl, rfl⟩ := hp_
        by_cases h3p : 0 ≤ p ∧ p ≤ 2
        · rw [decide_eq_true h3p]
          rw [if_pos h3p] at E
          refine k_ifeq_b C dX3_cell_59 (tgt := 83) (by decide) (fun z => by cases z) (fun _ => ?_)
          refine k_aload_n C dX3_cell_62 rfl ?_
          refine k_get C fg_X3_10 dX3_cell_63 (by assumption) (by rfl) ?_
          refine k_iload_n C dX3_cell_66 rfl ?_
          refine kx_V C rfl mv_X3_48 dX3_cell_67 ((c_get A hin hf)) (by assumption) rfl rfl (Nat.le_of_ble_eq_true rfl) ⟨(Nat.le_of_ble_eq_true rfl), (Nat.le_of_ble_eq_true rfl)⟩ (by omega) (fun v k1 hp_ => ?_) (fun _ _ hx => hx.elim)
          obtain ⟨rfl, rfl⟩ := hp_
          refine k_castO C ck_X3_35_5 dX3_cell_70 (by assumption) ?_
          refine k_iload_n C dX3_cell_73 rfl ?_
          refine k_iload_n C dX3_cell_74 rfl ?_
          refine k_iload C dX3_cell_75 rfl ?_
          refine kx_S C rfl ms_X3_211 dX3_cell_77 ((c_mCellNow M mok.1 (by omega) h2b h3p)) rfl rfl (Nat.le_of_ble_eq_true rfl) ⟨(Nat.le_of_ble_eq_true rfl), (Nat.le_of_ble_eq_true rfl)⟩ (by omega) (fun v k1 hp_ => ?_) (fun _ _ hx => hx.elim)
          obtain ⟨rfl, rfl⟩ := hp_
          refine k_goto C dX3_cell_80 (tgt := 88) (by decide) ?_
          exact k_iret C E dX3_cell_88 (by omega) ⟨H1, U1, _, rfl, fun _ => rfl⟩
        · rw [decide_eq_false h3p]
          rw [if_neg h3p] at E
          refine k_ifeq_b C dX3_cell_59 (tgt := 83) (by decide) (fun _ => ?_) (fun z => by cases z)
          refine k_aload_n C dX3_cell_83 rfl ?_
          refine k_iconst C dX3_cell_84 ?_
          refine kx_V C rfl mv_X3_31 dX3_cell_85 ((c_mRefuse (z := 2) H1)) (by assumption) rfl rfl (Nat.le_of_ble_eq_true rfl) ⟨(Nat.le_of_ble_eq_true rfl), (Nat.le_of_ble_eq_true rfl)⟩ (by omega) (fun v h2 hp_ => ?_) (fun _ _ hx => hx.elim)
          obtain ⟨rfl, H2, U2⟩ := hp_
          exact k_iret C E dX3_cell_88 (by omega) ⟨H2, U1.trans U2 (fun x hx => Or.inl hx), 0, rfl, fun z => (by cases z)⟩
      · rw [decide_eq_false h2b]
        refine k_ifne_b C dX3_cell_43 (tgt := 52) (by decide) (fun z => by cases z) (fun _ => ?_)
        exact no (decide_eq_false (fun z => h2b (by omega)))
    · rw [decide_eq_false h1t]
      refine k_ifeq_b C dX3_cell_34 (tgt := 46) (by decide) (fun _ => ?_) (fun z => by cases z)
      exact no (decide_eq_false (fun z => h1t (by omega)))
theorem c_mMeetsX {w : Wd} {h : Hp} {m : Nat} {L : ML} {σ : Sg} {th i t b p : Int} {s : Int64} (H : isMo w h m L σ th s) (hσ : SgOk σ) (hi : i32 i) (ht : i32 t) (hb : i32 b) (hp : i32 p) : Ct w yX3_meets (ws_ yX3_meets cX3_meets 6 (some FieldType.int)) 3 64 2 1011 [.ref m, jI i, jI t, jI b, jI p] h (qPost w h m L σ s (meetK σ i t b p) (mtF (σ.ms i.toNat).1 t b p.toNat 0 c0)) NoX := by
  have hm := H.1
  unfold meetK
  have ht' := ht
  have hb' := hb
  unfold i32 at ht' hb'
  refine Ct.of (by decide) [some (.ref m), some (jI i), some (jI t), some (jI b), some (jI p), none] rfl (Nat.le_of_ble_eq_true rfl) (fun K C E N0 => ?_)
  refine k_aload_n C dX3_meets_0 rfl ?_
  refine k_iconst C dX3_meets_1 ?_
  refine k_put C fg_X3_19 ft_2_0 dX3_meets_2 (by assumption) rfl rfl rfl (fun h1 P1 => ?_)
  have H1 := H.own P1
  have hm1 := H1.1
  have U1 := P1.upd
  have no : cellOk σ i t b = false → Wk w K h1 0 0 46 [some (.ref m), some (jI i), some (jI t), some (jI b), some (jI p), none] [] := by
    intro z
    rw [z] at E
    refine k_aload_n C dX3_meets_46 rfl ?_
    refine k_iconst C dX3_meets_47 ?_
    refine kx_V C rfl mv_X3_31 dX3_meets_48 ((c_mRefuse (z := 1) H1)) (by assumption) rfl rfl (Nat.le_of_ble_eq_true rfl) ⟨(Nat.le_of_ble_eq_true rfl), (Nat.le_of_ble_eq_true rfl)⟩ (by omega) (fun v h2 hp_ => ?_) (fun _ _ hx => hx.elim)
    obtain ⟨rfl, H2, U2⟩ := hp_
    exact k_iret C E dX3_meets_51 (by omega) ⟨H2, U1.trans U2 (fun x hx => Or.inl hx), 0, rfl, fun z => (by cases z)⟩
  refine k_aload_n C dX3_meets_5 rfl ?_
  refine k_iload_n C dX3_meets_6 rfl ?_
  refine kx_V C rfl mv_X3_44 dX3_meets_7 ((c_mIsMachine H1 hσ hi)) (by assumption) rfl rfl (Nat.le_of_ble_eq_true rfl) ⟨(Nat.le_of_ble_eq_true rfl), (Nat.le_of_ble_eq_true rfl)⟩ (by omega) (fun v k1 hp_ => ?_) (fun _ _ hx => hx.elim)
  obtain ⟨rfl, rfl⟩ := hp_
  cases hok : mchOk σ i with
  | false =>
    refine k_ifeq_b C dX3_meets_10 (tgt := 46) (by decide) (fun _ => ?_) (fun z => by cases z)
    exact no (cellOk_m hok)
  | true =>
    refine k_ifeq_b C dX3_meets_10 (tgt := 46) (by decide) (fun z => by cases z) (fun _ => ?_)
    obtain ⟨f, A, hin, hf, M⟩ := H1.at hok
    have mok := hσ.2.2.1 i.toNat (by omega)
    have hT2 := mok.1.2.1
    have l1 := A.1
    have M1 := M.1
    refine k_iload_n C dX3_meets_13 rfl ?_
    refine k_iconst C dX3_meets_14 ?_
    refine k_aload_n C dX3_meets_15 rfl ?_
    refine k_get C fg_X3_10 dX3_meets_16 (by assumption) (by rfl) ?_
    refine k_iload_n C dX3_meets_19 rfl ?_
    refine kx_V C rfl mv_X3_48 dX3_meets_20 ((c_get A hin hf)) (by assumption) rfl rfl (Nat.le_of_ble_eq_true rfl) ⟨(Nat.le_of_ble_eq_true rfl), (Nat.le_of_ble_eq_true rfl)⟩ (by omega) (fun v k1 hp_ => ?_) (fun _ _ hx => hx.elim)
    obtain ⟨rfl, rfl⟩ := hp_
    refine k_castO C ck_X3_35_5 dX3_meets_23 (by assumption) ?_
    refine k_getN C fn_X3_52 dX3_meets_26 (by assumption) (by rfl) ?_
    refine k_iconst C dX3_meets_29 ?_
    refine k_isub C dX3_meets_30 ?_
    refine kx_S C rfl ms_X3_27 dX3_meets_31 ((c_is (v := t) (a := 0) (b := ((σ.ms i.toNat).1.1 : Int) - 1) (by unfold i32; omega))) rfl rfl (Nat.le_of_ble_eq_true rfl) ⟨(Nat.le_of_ble_eq_true rfl), (Nat.le_of_ble_eq_true rfl)⟩ (by omega) (fun v k1 hp_ => ?_) (fun _ _ hx => hx.elim)
    obtain ⟨rfl, rfl⟩ := hp_
    by_cases h1t : 0 ≤ t ∧ t ≤ ((σ.ms i.toNat).1.1 : Int) - 1
    · rw [decide_eq_true h1t]
      refine k_ifeq_b C dX3_meets_34 (tgt := 46) (by decide) (fun z => by cases z) (fun _ => ?_)
      refine k_iload_n C dX3_meets_37 rfl ?_
      refine k_iconst C dX3_meets_38 ?_
      refine k_iconst C dX3_meets_39 ?_
      refine kx_S C rfl ms_X3_27 dX3_meets_40 ((c_is (v := b) (a := 0) (b := 1) (by unfold i32; omega))) rfl rfl (Nat.le_of_ble_eq_true rfl) ⟨(Nat.le_of_ble_eq_true rfl), (Nat.le_of_ble_eq_true rfl)⟩ (by omega) (fun v k1 hp_ => ?_) (fun _ _ hx => hx.elim)
      obtain ⟨rfl, rfl⟩ := hp_
      by_cases h2b : 0 ≤ b ∧ b ≤ 1
      · rw [decide_eq_true h2b]
        refine k_ifne_b C dX3_meets_43 (tgt := 52) (by decide) (fun _ => ?_) (fun z => by cases z)
        have yes : cellOk σ i t b = true := decide_eq_true (by omega)
        rw [yes, if_pos rfl] at E
        refine k_iload C dX3_meets_52 rfl ?_
        refine k_iconst C dX3_meets_54 ?_
        refine k_sipush C dX3_meets_55 (by decide) ?_
        refine kx_S C rfl ms_X3_27 dX3_meets_58 ((c_is (v := p) (a := 0) (b := 500) (by unfold i32 at *; omega))) rfl rfl (Nat.le_of_ble_eq_true rfl) ⟨(Nat.le_of_ble_eq_true rfl), (Nat.le_of_ble_eq_true rfl)⟩ (by omega) (fun v k1 hp_ => ?_) (fun _ _ hx => hx.elim)
        obtain ⟨rfl, rfl⟩ := hp_
        by_cases h3p : 0 ≤ p ∧ p ≤ 500
        · rw [decide_eq_true h3p]
          rw [if_pos h3p] at E
          refine k_ifne_b C dX3_meets_61 (tgt := 70) (by decide) (fun _ => ?_) (fun z => by cases z)
          obtain ⟨S, hS⟩ : ∃ S : Nat, p = (S : Int) := ⟨p.toNat, by omega⟩
          subst hS
          rw [show ((S : Nat) : Int).toNat = S from rfl] at *
          generalize hres : mtF (σ.ms i.toNat).1 t b S 0 c0 = res at *
          refine k_new C nw_X3_86 dX3_meets_70 ⟨by omega, by omega⟩ (fun q h3 N3 => ?_)
          have q3 := N3.2.1
          have A3 := A.ext N3.2.2.1
          have l3 := A3.1
          have m3 := N3.2.2.1.2 _ _ hm1
          have M31 := N3.2.2.1.2 _ _ M1
          refine k_dup C dX3_meets_73 rfl ?_
          refine k_aload_n C dX3_meets_74 rfl ?_
          refine k_get C fg_X3_10 dX3_meets_75 (by assumption) (by rfl) ?_
          refine k_iload_n C dX3_meets_78 rfl ?_
          refine kx_V C rfl mv_X3_48 dX3_meets_79 ((c_get A3 hin hf)) (by assumption) rfl rfl (Nat.le_of_ble_eq_true rfl) ⟨(Nat.le_of_ble_eq_true rfl), (Nat.le_of_ble_eq_true rfl)⟩ ⟨by omega, by omega⟩ (fun v k3 hp_ => ?_) (fun _ _ hx => hx.elim)
          obtain ⟨rfl, rfl⟩ := hp_
          refine k_castO C ck_X3_35_5 dX3_meets_82 (by assumption) ?_
          refine k_iload C dX3_meets_85 rfl ?_
          refine kx_I C rfl mi_X3_126 dX3_meets_87 ((c_rnInit (R := S) (by omega) q3)) rfl rfl (Nat.le_of_ble_eq_true rfl) ⟨(Nat.le_of_ble_eq_true rfl), (Nat.le_of_ble_eq_true rfl)⟩ ⟨by omega, by omega⟩ (fun v h4 hp_ => ?_) (fun _ _ hx => hx.elim)
          obtain ⟨rfl, tp, t4, W4, U4⟩ := hp_
          have loop : ∀ (d j n k : Nat) (hh : Hp) (c : Cf), j + d = S → c.n = j → n ≤ 2 → k ≤ 1011 → isRn hh q (L.A i.toNat).1 tp S c → CfOk (σ.ms i.toNat).1 c → Upd h4 hh [q, tp] → mtF (σ.ms i.toNat).1 t b d j c = res → Wk w K hh n k 92 [some (.ref m), some (jI i), some (jI t), some (jI b), some (jI (S : Nat)), some (.ref q)] [] := by
            intro d
            induction d with
            | zero =>
              intro j n k hh c hj hn hn2 hk2 W ok U hr
              have W1 := W.1
              have MM := wk_made N3 t4 U4 U
              obtain ⟨⟨c1, c2⟩, ⟨c3, c4, c5, c6, c7, c8⟩, c9, c10⟩ := id ok
              have c9' := c9 c.pl
              have fin := U1.trans (MM.2.1.upd [m]) (fun x hx => Or.inl hx)
              have tail : ¬ (c.st = t ∧ c.tp c.pl = b) → Wk w K hh n k 110 [some (.ref m), some (jI i), some (jI t), some (jI b), some (jI (S : Nat)), some (.ref q)] [] := by
                intro hne
                rw [mtF_0 hne] at hr
                refine k_aload C dX3_meets_110 rfl ?_
                refine k_getN C fn_X3_112 dX3_meets_112 (by assumption) (by rfl) ?_
                refine k_iload C dX3_meets_115 rfl ?_
                refine k_icmp_eq C dX3_meets_117 (tgt := 128) (by decide) (by omega) (fun g1 => ?_) (fun g2 => ?_)
                · refine k_iconst C dX3_meets_128 ?_
                  rw [hr]
                  exact k_iret C E dX3_meets_129 (by omega) ⟨H1.ext MM.2.1, fin, _, rfl, fun _ => rfl⟩
                · omega
              refine k_aload C dX3_meets_92 rfl ?_
              refine k_getN C fn_X3_103 dX3_meets_94 (by assumption) (by rfl) ?_
              refine k_iload_n C dX3_meets_97 rfl ?_
              refine k_icmp_ne C dX3_meets_98 (tgt := 110) (by decide) (by omega) (fun g1 => ?_) (fun g2 => ?_)
              · exact tail (fun z => g1 z.1)
              · refine k_aload C dX3_meets_101 rfl ?_
                refine kx_V C rfl mv_X3_106 dX3_meets_103 ((c_rnUnder (by omega) W ok (by omega))) (by assumption) rfl rfl (Nat.le_of_ble_eq_true rfl) ⟨(Nat.le_of_ble_eq_true rfl), (Nat.le_of_ble_eq_true rfl)⟩ (by omega) (fun v k5 hp_ => ?_) (fun _ _ hx => hx.elim)
                obtain ⟨rfl, rfl⟩ := hp_
                refine k_iload_n C dX3_meets_106 rfl ?_
                refine k_icmp_eq C dX3_meets_107 (tgt := 130) (by decide) (by omega) (fun g3 => ?_) (fun g4 => ?_)
                · rw [mtF_hit ⟨g2, g3⟩] at hr
                  refine k_aload C dX3_meets_130 rfl ?_
                  refine k_getN C fn_X3_112 dX3_meets_132 (by assumption) (by rfl) ?_
                  rw [show ((c.n : Nat) : Int) = res by rw [hn]; exact hr]
                  exact k_iret C E dX3_meets_135 (by omega) ⟨H1.ext MM.2.1, fin, _, rfl, fun _ => rfl⟩
                · exact tail (fun z => g4 z.2)
            | succ d ih =>
              intro j n k hh c hj hn hn2 hk2 W ok U hr
              have W1 := W.1
              have MM := wk_made N3 t4 U4 U
              obtain ⟨⟨c1, c2⟩, ⟨c3, c4, c5, c6, c7, c8⟩, c9, c10⟩ := id ok
              have c9' := c9 c.pl
              have fin := U1.trans (MM.2.1.upd [m]) (fun x hx => Or.inl hx)
              have tail : ¬ (c.st = t ∧ c.tp c.pl = b) → Wk w K hh n k 110 [some (.ref m), some (jI i), some (jI t), some (jI b), some (jI (S : Nat)), some (.ref q)] [] := by
                intro hne
                refine k_aload C dX3_meets_110 rfl ?_
                refine k_getN C fn_X3_112 dX3_meets_112 (by assumption) (by rfl) ?_
                refine k_iload C dX3_meets_115 rfl ?_
                refine k_icmp_eq C dX3_meets_117 (tgt := 128) (by decide) (by omega) (fun g1 => ?_) (fun g2 => ?_)
                · omega
                · refine k_aload C dX3_meets_120 rfl ?_
                  cases hx : nxt (σ.ms i.toNat).1 c with
                  | none =>
                    rw [mtF_end hne hx] at hr
                    refine kx_V C rfl mv_X3_129 dX3_meets_122 ((c_rnStepN (by omega) W (M.ext MM.2.1) mok.1 ok (by omega) hx)) (by assumption) rfl rfl (Nat.le_of_ble_eq_true rfl) ⟨(Nat.le_of_ble_eq_true rfl), (Nat.le_of_ble_eq_true rfl)⟩ (by omega) (fun v k6 hp_ => ?_) (fun _ _ hx => hx.elim)
                    obtain ⟨rfl, rfl⟩ := hp_
                    refine k_ifne_b C dX3_meets_125 (tgt := 92) (by decide) (fun z => by cases z) (fun _ => ?_)
                    refine k_iconst C dX3_meets_128 ?_
                    rw [hr]
                    exact k_iret C E dX3_meets_129 (by omega) ⟨H1.ext MM.2.1, fin, _, rfl, fun _ => rfl⟩
                  | some r =>
                    rw [mtF_on hne hx] at hr
                    refine kx_V C rfl mv_X3_129 dX3_meets_122 ((c_rnStepS (by omega) W (M.ext MM.2.1) mok.1 ok (by omega) hx)) (by assumption) rfl rfl (Nat.le_of_ble_eq_true rfl) ⟨(Nat.le_of_ble_eq_true rfl), (Nat.le_of_ble_eq_true rfl)⟩ (by omega) (fun v k6 hp_ => ?_) (fun _ _ hx => hx.elim)
                    obtain ⟨rfl, U6, W6⟩ := hp_
                    refine k_ifne_b C dX3_meets_125 (tgt := 92) (by decide) (fun _ => ?_) (fun z => by cases z)
                    exact ih (j + 1) _ _ k6 (adv c r) (by omega) (by show c.n + 1 = j + 1; omega) (by omega) (by omega) W6 (adv_ok mok.1 ok hx) (U.trans U6 (fun x hx => Or.inl hx)) hr
              refine k_aload C dX3_meets_92 rfl ?_
              refine k_getN C fn_X3_103 dX3_meets_94 (by assumption) (by rfl) ?_
              refine k_iload_n C dX3_meets_97 rfl ?_
              refine k_icmp_ne C dX3_meets_98 (tgt := 110) (by decide) (by omega) (fun g1 => ?_) (fun g2 => ?_)
              · exact tail (fun z => g1 z.1)
              · refine k_aload C dX3_meets_101 rfl ?_
                refine kx_V C rfl mv_X3_106 dX3_meets_103 ((c_rnUnder (by omega) W ok (by omega))) (by assumption) rfl rfl (Nat.le_of_ble_eq_true rfl) ⟨(Nat.le_of_ble_eq_true rfl), (Nat.le_of_ble_eq_true rfl)⟩ (by omega) (fun v k5 hp_ => ?_) (fun _ _ hx => hx.elim)
                obtain ⟨rfl, rfl⟩ := hp_
                refine k_iload_n C dX3_meets_106 rfl ?_
                refine k_icmp_eq C dX3_meets_107 (tgt := 130) (by decide) (by omega) (fun g3 => ?_) (fun g4 => ?_)
                · rw [mtF_hit ⟨g2, g3⟩] at hr
                  refine k_aload C dX3_meets_130 rfl ?_
                  refine k_getN C fn_X3_112 dX3_meets_132 (by assumption) (by rfl) ?_
                  rw [show ((c.n : Nat) : Int) = res by rw [hn]; exact hr]
                  exact k_iret C E dX3_meets_135 (by omega) ⟨H1.ext MM.2.1, fin, _, rfl, fun _ => rfl⟩
                · exact tail (fun z => g4 z.2)
          refine k_astore C dX3_meets_90 (Nat.le_of_ble_eq_true rfl) rfl ?_
          exact loop S 0 _ _ h4 c0 (by omega) rfl (by omega) (by omega) W4 c0_ok ((Ext.refl h4).upd _) hres
        · rw [decide_eq_false h3p]
          rw [if_neg h3p] at E
          refine k_ifne_b C dX3_meets_61 (tgt := 70) (by decide) (fun z => by cases z) (fun _ => ?_)
          refine k_aload_n C dX3_meets_64 rfl ?_
          refine k_iconst C dX3_meets_65 ?_
          refine kx_V C rfl mv_X3_31 dX3_meets_66 ((c_mRefuse (z := 2) H1)) (by assumption) rfl rfl (Nat.le_of_ble_eq_true rfl) ⟨(Nat.le_of_ble_eq_true rfl), (Nat.le_of_ble_eq_true rfl)⟩ (by omega) (fun v h2 hp_ => ?_) (fun _ _ hx => hx.elim)
          obtain ⟨rfl, H2, U2⟩ := hp_
          exact k_iret C E dX3_meets_69 (by omega) ⟨H2, U1.trans U2 (fun x hx => Or.inl hx), 0, rfl, fun z => (by cases z)⟩
      · rw [decide_eq_false h2b]
        refine k_ifne_b C dX3_meets_43 (tgt := 52) (by decide) (fun z => by cases z) (fun _ => ?_)
        exact no (decide_eq_false (fun z => h2b (by omega)))
    · rw [decide_eq_false h1t]
      refine k_ifeq_b C dX3_meets_34 (tgt := 46) (by decide) (fun _ => ?_) (fun z => by cases z)
      exact no (decide_eq_false (fun z => h1t (by omega)))
theorem c_mChampionX {w : Wd} {h : Hp} {m : Nat} {L : ML} {σ : Sg} {th what : Int} {s : Int64} (H : isMo w h m L σ th s) (hσ : SgOk σ) (hw : i32 what) : Ct w yX3_champion (ws_ yX3_champion cX3_champion 2 (some FieldType.int)) 7 156 (3 * σ.n) (1020 * σ.n) [.ref m, jI what] h (qPost w h m L σ s (chamK what) (chamC σ what)) NoX := by
  have hm := H.1
  unfold chamK
  refine Ct.of (by decide) [some (.ref m), some (jI what)] rfl (Nat.le_of_ble_eq_true rfl) (fun K C E N0 => ?_)
  refine k_aload_n C dX3_champion_0 rfl ?_
  refine k_iconst C dX3_champion_1 ?_
  refine k_put C fg_X3_19 ft_2_0 dX3_champion_2 (by assumption) rfl rfl rfl (fun h1 P1 => ?_)
  have H1 := H.own P1
  have hm1 := H1.1
  have U1 := P1.upd
  refine k_iload_n C dX3_champion_5 rfl ?_
  refine k_iconst C dX3_champion_6 ?_
  refine k_iconst C dX3_champion_7 ?_
  refine kx_S C rfl ms_X3_27 dX3_champion_8 ((c_is (v := what) (a := 0) (b := 1) (by unfold i32 at *; omega))) rfl rfl (Nat.le_of_ble_eq_true rfl) ⟨(Nat.le_of_ble_eq_true rfl), (Nat.le_of_ble_eq_true rfl)⟩ (by omega) (fun v k1 hp_ => ?_) (fun _ _ hx => hx.elim)
  obtain ⟨rfl, rfl⟩ := hp_
  by_cases h1 : 0 ≤ what ∧ what ≤ 1
  · rw [decide_eq_true h1]
    rw [if_pos h1] at E
    refine k_ifeq_b C dX3_champion_11 (tgt := 22) (by decide) (fun z => by cases z) (fun _ => ?_)
    refine k_aload_n C dX3_champion_14 rfl ?_
    refine k_iload_n C dX3_champion_15 rfl ?_
    refine kx_V C rfl mv_X3_243 dX3_champion_16 ((c_mChampionNow H1 hσ h1)) (by assumption) rfl rfl (Nat.le_of_ble_eq_true rfl) ⟨(Nat.le_of_ble_eq_true rfl), (Nat.le_of_ble_eq_true rfl)⟩ (by omega) (fun v h3 hp_ => ?_) (fun _ _ hx => hx.elim)
    obtain ⟨rfl, E3⟩ := hp_
    refine k_goto C dX3_champion_19 (tgt := 27) (by decide) ?_
    exact k_iret C E dX3_champion_27 (by omega) ⟨H1.ext E3, U1.trans (E3.upd [m]) (fun x hx => Or.inl hx), _, rfl, fun _ => rfl⟩
  · rw [decide_eq_false h1]
    rw [if_neg h1] at E
    refine k_ifeq_b C dX3_champion_11 (tgt := 22) (by decide) (fun _ => ?_) (fun z => by cases z)
    refine k_aload_n C dX3_champion_22 rfl ?_
    refine k_iconst C dX3_champion_23 ?_
    refine kx_V C rfl mv_X3_31 dX3_champion_24 ((c_mRefuse (z := 1) H1)) (by assumption) rfl rfl (Nat.le_of_ble_eq_true rfl) ⟨(Nat.le_of_ble_eq_true rfl), (Nat.le_of_ble_eq_true rfl)⟩ (by omega) (fun v h2 hp_ => ?_) (fun _ _ hx => hx.elim)
    obtain ⟨rfl, H2, U2⟩ := hp_
    exact k_iret C E dX3_champion_27 (by omega) ⟨H2, U1.trans U2 (fun x hx => Or.inl hx), 0, rfl, fun z => (by cases z)⟩
