/-! ===== the model: likeness ===== -/
set_option maxRecDepth 100000
theorem k_acmpR_eq {w : Wd} {K : KT} {own nm : String} {cc : ByteArray} {nL : Nat} {ret : Option FieldType} {fr lo mc ms : Nat} {h : Hp} {n k pc : Nat} {L : List (Option Value)} {st : List Value} {rx ry : Option Nat} {off : Int} {tgt : Nat} (C : Cx w K own cc nL ret nm fr lo mc ms) (hd : decode cc pc = .ok (.if_acmp .eq off, 3)) (ht : (pc : Int) + off = (tgt : Int)) (kt : rx = ry → Wk w K h n k tgt L st) (kf : ¬ rx = ry → Wk w K h n k (pc + 3) L st) : Wk w K h n k pc L (rf ry :: rf rx :: st) := by
  intro H locs ls R hl hL
  exact lv_acmp_eq (rx := rx) (ry := ry) C.1 C.2.1 hd ht (fun q => kt q H locs ls R hl hL) (fun q => kf q H locs ls R hl hL)
theorem c_mAlike {w : Wd} {h : Hp} {a1 s1 a2 s2 : Nat} {T U : Tb} {k1 x1 y1 k2 x2 y2 : Int} {b : Bool} (G : isMd h a1 s1 T k1 x1 y1) (F : isMd h a2 s2 U k2 x2 y2) (hT : TbOk T) (hU : TbOk U) : Ct w yX3_areAlike (ws_ yX3_areAlike cX3_areAlike 6 (some FieldType.boolean)) 0 0 0 0 [.ref a1, .ref a2, jI (if b then -1 else 1)] h (fun v h' => v = some (jI (b2i (asB b T U))) ∧ h' = h) NoX := by
  obtain ⟨G1, f, G2, G3⟩ := G
  obtain ⟨F1, g, F2, F3⟩ := F
  have hT2 := hT.2.1
  have hU2 := hU.2.1
  have hb : (if b then (-1 : Int) else 1) = 1 ∧ b = false ∨ (if b then (-1 : Int) else 1) = -1 ∧ b = true := by cases b <;> simp
  generalize hby : (if b then (-1 : Int) else 1) = by' at *
  refine Ct.of (by decide) [some (.ref a1), some (.ref a2), some (jI by'), none, none, none] rfl (Nat.le_of_ble_eq_true rfl) (fun K C E N0 => ?_)
  refine k_aload_n C dX3_areAlike_0 rfl ?_
  refine k_getN C fn_X3_52 dX3_areAlike_1 (by assumption) (by rfl) ?_
  refine k_aload_n C dX3_areAlike_4 rfl ?_
  refine k_getN C fn_X3_52 dX3_areAlike_5 (by assumption) (by rfl) ?_
  refine k_icmp_eq C dX3_areAlike_8 (tgt := 13) (by decide) (by omega) (fun h1 => ?_) (fun h2 => ?_)
  · have hS : T.1 = U.1 := by omega
    have loop : ∀ (d i : Nat), i + d = 2 * T.1 → asN b T U i = true → Wk w K h 0 0 15 [some (.ref a1), some (.ref a2), some (jI by'), some (jI (i : Nat)), none, none] [] := by
      intro d
      induction d with
      | zero =>
        intro i hi has
        have hi' : i = 2 * T.1 := by omega
        subst hi'
        refine k_iload_n C dX3_areAlike_15 rfl ?_
        refine k_aload_n C dX3_areAlike_16 rfl ?_
        refine k_getN C fn_X3_59 dX3_areAlike_17 (by assumption) (by rfl) ?_
        refine k_alen C dX3_areAlike_20 (by assumption) (by rfl) ?_
        refine k_icmp_ge C dX3_areAlike_21 (tgt := 103) (by decide) (by omega) (fun g1 => ?_) (fun g2 => ?_)
        · refine k_iconst C dX3_areAlike_103 ?_
          exact k_zret (b := true) C E dX3_areAlike_104 (by omega) ⟨by unfold asB; rw [decide_eq_true hS, has]; rfl, rfl⟩
        · omega
      | succ d ih =>
        intro i hi has
        have c1 := G3 (i : Int) (by omega) (by omega)
        have c2 := F3 (i : Int) (by omega) (by omega)
        have hfail : cellAs b (T.2 (i : Int)) (U.2 (i : Int)) = false → asB b T U = false := fun z => by
          unfold asB; rw [asN_false z (2 * T.1) (by omega)]; simp
        have hgo : cellAs b (T.2 (i : Int)) (U.2 (i : Int)) = true → Wk w K h 0 0 97 [some (.ref a1), some (.ref a2), some (jI by'), some (jI (i : Nat)), none, none] [] := fun z => by
          refine k_iinc C dX3_areAlike_97 rfl rfl ?_
          refine k_goto C dX3_areAlike_100 (tgt := 15) (by decide) ?_
          exact ih (i + 1) (by omega) (by unfold asN; rw [has, z]; rfl)
        have hno : cellAs b (T.2 (i : Int)) (U.2 (i : Int)) = false → Wk w K h 0 0 95 [some (.ref a1), some (.ref a2), some (jI by'), some (jI (i : Nat)), none, none] [] := fun z => by
          refine k_iconst C dX3_areAlike_95 ?_
          exact k_zret (b := false) C E dX3_areAlike_96 (by omega) ⟨by rw [hfail z], rfl⟩
        refine k_iload_n C dX3_areAlike_15 rfl ?_
        refine k_aload_n C dX3_areAlike_16 rfl ?_
        refine k_getN C fn_X3_59 dX3_areAlike_17 (by assumption) (by rfl) ?_
        refine k_alen C dX3_areAlike_20 (by assumption) (by rfl) ?_
        refine k_icmp_ge C dX3_areAlike_21 (tgt := 103) (by decide) (by omega) (fun g1 => ?_) (fun g2 => ?_)
        · omega
        · cases hr : T.2 (i : Int) with
          | none =>
            rw [hr] at c1 hgo hno
            refine k_aload_n C dX3_areAlike_24 rfl ?_
            refine k_getN C fn_X3_59 dX3_areAlike_25 (by assumption) (by rfl) ?_
            refine k_iload_n C dX3_areAlike_28 rfl ?_
            refine k_aald C dX3_areAlike_29 (by assumption) (by rfl) (by rfl) (by omega) (show f (i : Int) = none from c1) ?_
            refine k_astoreN C dX3_areAlike_30 (Nat.le_of_ble_eq_true rfl) rfl ?_
            refine k_aload_n C dX3_areAlike_32 rfl ?_
            refine k_getN C fn_X3_59 dX3_areAlike_33 (by assumption) (by rfl) ?_
            refine k_iload_n C dX3_areAlike_36 rfl ?_
            cases hu : U.2 (i : Int) with
            | none =>
              rw [hu] at c2 hgo hno
              refine k_aald C dX3_areAlike_37 (by assumption) (by rfl) (by rfl) (by omega) (show g (i : Int) = none from c2) ?_
              refine k_astoreN C dX3_areAlike_38 (Nat.le_of_ble_eq_true rfl) rfl ?_
              refine k_aloadN C dX3_areAlike_40 rfl ?_
              refine k_ifnullN C dX3_areAlike_42 (tgt := 50) (by decide) ?_
              refine k_aloadN C dX3_areAlike_50 rfl ?_
              refine k_aloadN C dX3_areAlike_52 rfl ?_
              refine k_acmpR_eq (rx := none) (ry := none) C dX3_areAlike_54 (tgt := 97) (by decide) (fun _ => ?_) (fun z => absurd rfl z)
              exact Wk.sub (by repeat (first | exact trivial | apply Lle.so | apply Lle.no)) (hgo rfl)
            | some u =>
              rw [hu] at c2 hgo hno
              obtain ⟨p, gp, hf, hp, -⟩ := c2
              refine k_aald C dX3_areAlike_37 (by assumption) (by rfl) (by rfl) (by omega) hf ?_
              refine k_astore (x := p) C dX3_areAlike_38 (Nat.le_of_ble_eq_true rfl) rfl ?_
              refine k_aloadN C dX3_areAlike_40 rfl ?_
              refine k_ifnullN C dX3_areAlike_42 (tgt := 50) (by decide) ?_
              refine k_aloadN C dX3_areAlike_50 rfl ?_
              refine k_aload C dX3_areAlike_52 rfl ?_
              refine k_acmpR_eq (rx := none) (ry := some p) C dX3_areAlike_54 (tgt := 97) (by decide) (fun z => by cases z) (fun _ => ?_)
              refine k_goto C dX3_areAlike_57 (tgt := 95) (by decide) ?_
              exact Wk.sub (by repeat (first | exact trivial | apply Lle.so | apply Lle.no)) (hno rfl)
          | some r =>
            rw [hr] at c1 hgo hno
            obtain ⟨q, gq, hfq, hq, q0, q1, q2⟩ := c1
            refine k_aload_n C dX3_areAlike_24 rfl ?_
            refine k_getN C fn_X3_59 dX3_areAlike_25 (by assumption) (by rfl) ?_
            refine k_iload_n C dX3_areAlike_28 rfl ?_
            refine k_aald C dX3_areAlike_29 (by assumption) (by rfl) (by rfl) (by omega) hfq ?_
            refine k_astore (x := q) C dX3_areAlike_30 (Nat.le_of_ble_eq_true rfl) rfl ?_
            refine k_aload_n C dX3_areAlike_32 rfl ?_
            refine k_getN C fn_X3_59 dX3_areAlike_33 (by assumption) (by rfl) ?_
            refine k_iload_n C dX3_areAlike_36 rfl ?_
            cases hu : U.2 (i : Int) with
            | none =>
              rw [hu] at c2 hgo hno
              refine k_aald C dX3_areAlike_37 (by assumption) (by rfl) (by rfl) (by omega) (show g (i : Int) = none from c2) ?_
              refine k_astoreN C dX3_areAlike_38 (Nat.le_of_ble_eq_true rfl) rfl ?_
              refine k_aload C dX3_areAlike_40 rfl ?_
              refine k_ifnull C dX3_areAlike_42 ?_
              refine k_aloadN C dX3_areAlike_45 rfl ?_
              refine k_ifnonnullN C dX3_areAlike_47 ?_
              refine k_aload C dX3_areAlike_50 rfl ?_
              refine k_aloadN C dX3_areAlike_52 rfl ?_
              refine k_acmpR_eq (rx := some q) (ry := none) C dX3_areAlike_54 (tgt := 97) (by decide) (fun z => by cases z) (fun _ => ?_)
              refine k_goto C dX3_areAlike_57 (tgt := 95) (by decide) ?_
              exact Wk.sub (by repeat (first | exact trivial | apply Lle.so | apply Lle.no)) (hno rfl)
            | some u =>
              rw [hu] at c2 hgo hno
              obtain ⟨p, gp, hf, hp, p0, p1, p2⟩ := c2
              obtain ⟨r1, r2, r3, r4⟩ := hT.2.2 _ r (by omega) (by omega) hr
              obtain ⟨u1, u2, u3, u4⟩ := hU.2.2 _ u (by omega) (by omega) hu
              have key : cellAs b (some r) (some u) = decide (r.1 = u.1 ∧ r.2.1 = by' * u.2.1 ∧ r.2.2 = u.2.2) := by
                unfold cellAs turnR
                obtain ⟨ra, rb, rc⟩ := r
                obtain ⟨ua, ub, uc⟩ := u
                dsimp only at *
                rcases hb with ⟨e1, e2⟩ | ⟨e1, e2⟩ <;> subst e2 <;> rw [e1] <;> congr 1 <;> apply propext <;> simp <;> intros <;> constructor <;> intro z <;> omega
              have bu : by' * u.2.1 = 1 ∨ by' * u.2.1 = -1 := by rcases hb with ⟨e1, -⟩ | ⟨e1, -⟩ <;> rw [e1] <;> omega
              refine k_aald C dX3_areAlike_37 (by assumption) (by rfl) (by rfl) (by omega) hf ?_
              refine k_astore (x := p) C dX3_areAlike_38 (Nat.le_of_ble_eq_true rfl) rfl ?_
              refine k_aload C dX3_areAlike_40 rfl ?_
              refine k_ifnull C dX3_areAlike_42 ?_
              refine k_aload C dX3_areAlike_45 rfl ?_
              refine k_ifnonnull C dX3_areAlike_47 (tgt := 60) (by decide) ?_
              refine k_aload C dX3_areAlike_60 rfl ?_
              refine k_iconst C dX3_areAlike_62 ?_
              refine k_iald C dX3_areAlike_63 (by assumption) (by rfl) (by omega) ?_
              rw [q0]
              refine k_aload C dX3_areAlike_64 rfl ?_
              refine k_iconst C dX3_areAlike_66 ?_
              refine k_iald C dX3_areAlike_67 (by assumption) (by rfl) (by omega) ?_
              rw [p0]
              refine k_icmp_ne C dX3_areAlike_68 (tgt := 95) (by decide) (by omega) (fun e1 => ?_) (fun e2 => ?_)
              · exact Wk.sub (by repeat (first | exact trivial | apply Lle.so | apply Lle.no)) (hno (by rw [key]; exact decide_eq_false (fun z => e1 z.1)))
              · refine k_aload C dX3_areAlike_71 rfl ?_
                refine k_iconst C dX3_areAlike_73 ?_
                refine k_iald C dX3_areAlike_74 (by assumption) (by rfl) (by omega) ?_
                rw [q1]
                refine k_iload_n C dX3_areAlike_75 rfl ?_
                refine k_aload C dX3_areAlike_76 rfl ?_
                refine k_iconst C dX3_areAlike_78 ?_
                refine k_iald C dX3_areAlike_79 (by assumption) (by rfl) (by omega) ?_
                rw [p1]
                refine k_imul C dX3_areAlike_80 ?_
                refine k_icmp_ne C dX3_areAlike_81 (tgt := 95) (by decide) (by omega) (fun e3 => ?_) (fun e4 => ?_)
                · exact Wk.sub (by repeat (first | exact trivial | apply Lle.so | apply Lle.no)) (hno (by rw [key]; exact decide_eq_false (fun z => e3 z.2.1)))
                · refine k_aload C dX3_areAlike_84 rfl ?_
                  refine k_iconst C dX3_areAlike_86 ?_
                  refine k_iald C dX3_areAlike_87 (by assumption) (by rfl) (by omega) ?_
                  rw [q2]
                  refine k_aload C dX3_areAlike_88 rfl ?_
                  refine k_iconst C dX3_areAlike_90 ?_
                  refine k_iald C dX3_areAlike_91 (by assumption) (by rfl) (by omega) ?_
                  rw [p2]
                  refine k_icmp_eq C dX3_areAlike_92 (tgt := 97) (by decide) (by omega) (fun e5 => ?_) (fun e6 => ?_)
                  · exact Wk.sub (by repeat (first | exact trivial | apply Lle.so | apply Lle.no)) (hgo (by rw [key]; exact decide_eq_true ⟨e2, e4, e5⟩))
                  · exact Wk.sub (by repeat (first | exact trivial | apply Lle.so | apply Lle.no)) (hno (by rw [key]; exact decide_eq_false (fun z => e6 z.2.2)))
    refine k_iconst C dX3_areAlike_13 ?_
    refine k_istore_n C dX3_areAlike_14 (Nat.le_of_ble_eq_true rfl) rfl ?_
    exact loop (2 * T.1) 0 (by omega) rfl
  · refine k_iconst C dX3_areAlike_11 ?_
    exact k_zret (b := false) C E dX3_areAlike_12 (by omega) ⟨by unfold asB; rw [decide_eq_false (by omega)]; rfl, rfl⟩
theorem c_mLikenessX {w : Wd} {h : Hp} {m : Nat} {L : ML} {σ : Sg} {th a b : Int} {s : Int64} (H : isMo w h m L σ th s) (hσ : SgOk σ) (ha : i32 a) (hb : i32 b) : Ct w yX3_likeness (ws_ yX3_likeness cX3_likeness 3 (some FieldType.int)) 3 64 0 0 [.ref m, jI a, jI b] h (qPost w h m L σ s (likeK σ a b) (likeC (σ.ms a.toNat).1 (σ.ms b.toNat).1)) NoX := by
  have hm := H.1
  unfold likeK
  refine Ct.of (by decide) [some (.ref m), some (jI a), some (jI b)] rfl (Nat.le_of_ble_eq_true rfl) (fun K C E N0 => ?_)
  refine k_aload_n C dX3_likeness_0 rfl ?_
  refine k_iconst C dX3_likeness_1 ?_
  refine k_put C fg_X3_19 ft_2_0 dX3_likeness_2 (by assumption) rfl rfl rfl (fun h1 P1 => ?_)
  have H1 := H.own P1
  have hm1 := H1.1
  have U1 := P1.upd
  have no : (mchOk σ a && mchOk σ b) = false → Wk w K h1 0 0 21 [some (.ref m), some (jI a), some (jI b)] [] := by
    intro z
    rw [z] at E
    refine k_aload_n C dX3_likeness_21 rfl ?_
    refine k_iconst C dX3_likeness_22 ?_
    refine kx_V C rfl mv_X3_31 dX3_likeness_23 ((c_mRefuse (z := 1) H1)) (by assumption) rfl rfl (Nat.le_of_ble_eq_true rfl) ⟨(Nat.le_of_ble_eq_true rfl), (Nat.le_of_ble_eq_true rfl)⟩ (by omega) (fun v h2 hp_ => ?_) (fun _ _ hx => hx.elim)
    obtain ⟨rfl, H2, U2⟩ := hp_
    exact k_iret C E dX3_likeness_26 (by omega) ⟨H2, U1.trans U2 (fun x hx => Or.inl hx), 0, rfl, fun z => (by cases z)⟩
  refine k_aload_n C dX3_likeness_5 rfl ?_
  refine k_iload_n C dX3_likeness_6 rfl ?_
  refine kx_V C rfl mv_X3_44 dX3_likeness_7 ((c_mIsMachine H1 hσ ha)) (by assumption) rfl rfl (Nat.le_of_ble_eq_true rfl) ⟨(Nat.le_of_ble_eq_true rfl), (Nat.le_of_ble_eq_true rfl)⟩ (by omega) (fun v k1 hp_ => ?_) (fun _ _ hx => hx.elim)
  obtain ⟨rfl, rfl⟩ := hp_
  cases hok : mchOk σ a with
  | false =>
    refine k_ifeq_b C dX3_likeness_10 (tgt := 21) (by decide) (fun _ => ?_) (fun z => by cases z)
    exact no (by rw [hok]; rfl)
  | true =>
    refine k_ifeq_b C dX3_likeness_10 (tgt := 21) (by decide) (fun z => by cases z) (fun _ => ?_)
    refine k_aload_n C dX3_likeness_13 rfl ?_
    refine k_iload_n C dX3_likeness_14 rfl ?_
    refine kx_V C rfl mv_X3_44 dX3_likeness_15 ((c_mIsMachine H1 hσ hb)) (by assumption) rfl rfl (Nat.le_of_ble_eq_true rfl) ⟨(Nat.le_of_ble_eq_true rfl), (Nat.le_of_ble_eq_true rfl)⟩ (by omega) (fun v k1 hp_ => ?_) (fun _ _ hx => hx.elim)
    obtain ⟨rfl, rfl⟩ := hp_
    cases hok2 : mchOk σ b with
    | false =>
      refine k_ifne_b C dX3_likeness_18 (tgt := 27) (by decide) (fun z => by cases z) (fun _ => ?_)
      exact no (by rw [hok, hok2]; rfl)
    | true =>
      refine k_ifne_b C dX3_likeness_18 (tgt := 27) (by decide) (fun _ => ?_) (fun z => by cases z)
      rw [hok, hok2] at E
      obtain ⟨f, A, hin, hf, M⟩ := H1.at hok
      obtain ⟨f', A', hin', hf', M'⟩ := H1.at hok2
      have mok := hσ.2.2.1 a.toNat (by omega)
      have mok' := hσ.2.2.1 b.toNat (by omega)
      have l1 := A.1
      have M1 := M.1
      have M1' := M'.1
      generalize hres : likeC (σ.ms a.toNat).1 (σ.ms b.toNat).1 = res at *
      unfold likeC at hres
      refine k_aload_n C dX3_likeness_27 rfl ?_
      refine k_get C fg_X3_10 dX3_likeness_28 (by assumption) (by rfl) ?_
      refine k_iload_n C dX3_likeness_31 rfl ?_
      refine kx_V C rfl mv_X3_48 dX3_likeness_32 ((c_get A hin hf)) (by assumption) rfl rfl (Nat.le_of_ble_eq_true rfl) ⟨(Nat.le_of_ble_eq_true rfl), (Nat.le_of_ble_eq_true rfl)⟩ (by omega) (fun v k1 hp_ => ?_) (fun _ _ hx => hx.elim)
      obtain ⟨rfl, rfl⟩ := hp_
      refine k_castO C ck_X3_35_5 dX3_likeness_35 (by assumption) ?_
      refine k_aload_n C dX3_likeness_38 rfl ?_
      refine k_get C fg_X3_10 dX3_likeness_39 (by assumption) (by rfl) ?_
      refine k_iload_n C dX3_likeness_42 rfl ?_
      refine kx_V C rfl mv_X3_48 dX3_likeness_43 ((c_get A' hin' hf')) (by assumption) rfl rfl (Nat.le_of_ble_eq_true rfl) ⟨(Nat.le_of_ble_eq_true rfl), (Nat.le_of_ble_eq_true rfl)⟩ (by omega) (fun v k1 hp_ => ?_) (fun _ _ hx => hx.elim)
      obtain ⟨rfl, rfl⟩ := hp_
      refine k_castO C ck_X3_35_5 dX3_likeness_46 (by assumption) ?_
      refine k_iconst C dX3_likeness_49 ?_
      refine kx_S C rfl ms_X3_239 dX3_likeness_50 ((c_mAlike (b := false) M M' mok.1 mok'.1)) rfl rfl (Nat.le_of_ble_eq_true rfl) ⟨(Nat.le_of_ble_eq_true rfl), (Nat.le_of_ble_eq_true rfl)⟩ (by omega) (fun v k1 hp_ => ?_) (fun _ _ hx => hx.elim)
      obtain ⟨rfl, rfl⟩ := hp_
      refine k_ifeq_b C dX3_likeness_53 (tgt := 60) (by decide) (fun g2 => ?_) (fun g3 => ?_)
      · rw [if_neg (by rw [g2]; decide)] at hres
        refine k_aload_n C dX3_likeness_60 rfl ?_
        refine k_get C fg_X3_10 dX3_likeness_61 (by assumption) (by rfl) ?_
        refine k_iload_n C dX3_likeness_64 rfl ?_
        refine kx_V C rfl mv_X3_48 dX3_likeness_65 ((c_get A hin hf)) (by assumption) rfl rfl (Nat.le_of_ble_eq_true rfl) ⟨(Nat.le_of_ble_eq_true rfl), (Nat.le_of_ble_eq_true rfl)⟩ (by omega) (fun v k1 hp_ => ?_) (fun _ _ hx => hx.elim)
        obtain ⟨rfl, rfl⟩ := hp_
        refine k_castO C ck_X3_35_5 dX3_likeness_68 (by assumption) ?_
        refine k_aload_n C dX3_likeness_71 rfl ?_
        refine k_get C fg_X3_10 dX3_likeness_72 (by assumption) (by rfl) ?_
        refine k_iload_n C dX3_likeness_75 rfl ?_
        refine kx_V C rfl mv_X3_48 dX3_likeness_76 ((c_get A' hin' hf')) (by assumption) rfl rfl (Nat.le_of_ble_eq_true rfl) ⟨(Nat.le_of_ble_eq_true rfl), (Nat.le_of_ble_eq_true rfl)⟩ (by omega) (fun v k1 hp_ => ?_) (fun _ _ hx => hx.elim)
        obtain ⟨rfl, rfl⟩ := hp_
        refine k_castO C ck_X3_35_5 dX3_likeness_79 (by assumption) ?_
        refine k_iconst C dX3_likeness_82 ?_
        refine kx_S C rfl ms_X3_239 dX3_likeness_83 ((c_mAlike (b := true) M M' mok.1 mok'.1)) rfl rfl (Nat.le_of_ble_eq_true rfl) ⟨(Nat.le_of_ble_eq_true rfl), (Nat.le_of_ble_eq_true rfl)⟩ (by omega) (fun v k1 hp_ => ?_) (fun _ _ hx => hx.elim)
        obtain ⟨rfl, rfl⟩ := hp_
        refine k_ifeq_b C dX3_likeness_86 (tgt := 93) (by decide) (fun g5 => ?_) (fun g6 => ?_)
        · rw [if_neg (by rw [g5]; decide)] at hres
          refine k_iconst C dX3_likeness_93 ?_
          rw [hres]
          exact k_iret C E dX3_likeness_94 (by omega) ⟨H1, U1, _, rfl, fun _ => rfl⟩
        · rw [if_pos g6] at hres
          refine k_iconst C dX3_likeness_89 ?_
          refine k_goto C dX3_likeness_90 (tgt := 94) (by decide) ?_
          rw [hres]
          exact k_iret C E dX3_likeness_94 (by omega) ⟨H1, U1, _, rfl, fun _ => rfl⟩
      · rw [if_pos g3] at hres
        refine k_iconst C dX3_likeness_56 ?_
        refine k_goto C dX3_likeness_57 (tgt := 94) (by decide) ?_
        rw [hres]
        exact k_iret C E dX3_likeness_94 (by omega) ⟨H1, U1, _, rfl, fun _ => rfl⟩
