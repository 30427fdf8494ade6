/-! ===== the model: child ===== -/
set_option maxRecDepth 100000
section NUL
variable {w : Wd} {K : KT} {own nm : String} {cc : ByteArray} {nL : Nat} {ret : Option FieldType} {fr lo mc ms : Nat} {h : Hp} {n k pc : Nat} {L : List (Option Value)} {st : List Value}
theorem k_aastN {a N : Nat} {f : Int → Option Nat} {i : Int} (C : Cx w K own cc nL ret nm fr lo mc ms) (hd : decode cc pc = .ok (.aastore, 1)) (hh : h.2 a = some (aR 5 N f)) (hi : 0 ≤ i ∧ i < N ∧ i < 2147483648)
    (kk : ∀ h' : Hp, Put h h' a (aR 5 N (up f i none)) → Wk w K h' n k (pc + 1) L st) : Wk w K h n k pc L (.null :: jI i :: .ref a :: st) := by
  intro H locs ls R hl hL
  obtain ⟨⟨cell, q1, q2, qm⟩, qz⟩ := R.2.2.2 a _ hh
  have ha := qz (cOld_arr (by omega) hi)
  have hc := oi_clamp hi.1 hi.2.2
  obtain ⟨e1, e2, e3, e4⟩ := id q2
  obtain ⟨kA, comp, f1, f2, f3, f4, f5⟩ := C.wok.2.1 5 _ rfl
  have hs := up_set (mk := rf) (f := f) (x := none) hi.1
  intro T hT X
  have hT' : T.heap[a]? = some cell := by rw [hT]; exact q1
  have hlt : a < T.heap.size := (Array.getElem?_eq_some_iff.mp hT').1
  obtain ⟨X', sg⟩ := X.aastoreNullIn C.1 (j := Int32.ofInt i) hT' (fun q x => by rw [e2] at x; cases x) (by rw [e2]; exact fun x => by cases x) (by rw [e1]; exact f1) f2 rfl (by
    have := ix_in hi
    rw [e3]
    exact ⟨fun x => this (Or.inl x), Nat.not_le.mp fun x => this (Or.inr x)⟩) (g := F0 K.m pc ls (.null :: jI i :: .ref a :: st)) rfl rfl (by rw [C.2.1]; exact hd)
  rw [hc] at X' sg
  obtain ⟨t, b1, b2⟩ := kk (hU h a (aR 5 N (up f i none))) ⟨rfl, by simp [hU], fun b d eb hb => by simpa [hU, hb] using eb⟩ (T.setCell a (cell.setSlot i.toNat .null)).heap _ ls (R.put ha (heapAt_setCell_self _ hlt) (by rw [size_setCell, hT]) (fun q hq => by rw [heapAt_setCell_ne _ (Ne.symm hq), hT]) (cAt.set q2 (by show i.toNat < N; omega) hs.1 hs.2) (qm ha)) (hl.put ha (by rw [size_setCell, hT])) hL (T.setCell a (cell.setSlot i.toNat .null)) rfl X'
  exact ⟨t, sg t b1, b2⟩
end NUL
theorem isC.upd5 {h h' : Hp} {p : Option Nat} {r : Option Ru} {cs N : Nat} {f : Int → Option Nat} (e : h.2 cs = some (aR 5 N f)) (U : Upd h h' [cs]) (H : isC h p r) : isC h' p r := H.keep U (fun q hq n g _ e2 => by
  rw [show q = cs by simpa using hq, e] at e2
  cases e2)
theorem c_mChildX {w : Wd} {h : Hp} {m : Nat} {L : ML} {σ : Sg} {th i way : Int} {s : Int64} (H : isMo w h m L σ th s) (hsep : sepM L σ.n σ.k) (hσ : SgOk σ) (hi : i32 i) (hw : i32 way) : Ct w yX3_child (ws_ yX3_child cX3_child 8 (some FieldType.int)) 8 211 16 2077 [.ref m, jI i, jI way] h (fun v h' => ∃ r, v = some (jI r) ∧ (childK σ i way = 0 → r = (σ.n : Nat) ∧ stepM w h h' m L σ (addM σ (childT (σ.ms i.toNat).1 way, none, -1, -1)) 0 s) ∧ (childK σ i way ≠ 0 → stepM w h h' m L σ σ (childK σ i way : Nat) s)) NoX := by
  have hm := H.1
  have hn := hσ.1
  have hmn : h.2 m ≠ none := by rw [hm]; exact fun z => by cases z
  unfold childK
  refine Ct.of (by decide) [some (.ref m), some (jI i), some (jI way), none, none, none, none, none] rfl (Nat.le_of_ble_eq_true rfl) (fun K C E N0 => ?_)
  refine k_aload_n C dX3_child_0 rfl ?_
  refine k_iconst C dX3_child_1 ?_
  refine k_put C fg_X3_19 ft_2_0 dX3_child_2 (by assumption) rfl rfl rfl (fun h1 P1 => ?_)
  have H1 := H.own P1
  have hm1 := H1.1
  have U1 := P1.upd
  refine k_aload_n C dX3_child_5 rfl ?_
  refine k_iload_n C dX3_child_6 rfl ?_
  refine kx_V C rfl mv_X3_44 dX3_child_7 ((c_mIsMachine H1 hσ hi)) (by assumption) rfl rfl (Nat.le_of_ble_eq_true rfl) ⟨(Nat.le_of_ble_eq_true rfl), (Nat.le_of_ble_eq_true rfl)⟩ (by omega) (fun v k1 hp_ => ?_) (fun _ _ hx => hx.elim)
  obtain ⟨rfl, rfl⟩ := hp_
  cases hok : mchOk σ i with
  | false =>
    refine k_ifne_b C dX3_child_10 (tgt := 19) (by decide) (fun z => by cases z) (fun _ => ?_)
    rw [hok] at E
    refine k_aload_n C dX3_child_13 rfl ?_
    refine k_iconst C dX3_child_14 ?_
    refine kx_V C rfl mv_X3_31 dX3_child_15 ((c_mRefuse (z := 1) H1)) (by assumption) rfl rfl (Nat.le_of_ble_eq_true rfl) ⟨(Nat.le_of_ble_eq_true rfl), (Nat.le_of_ble_eq_true rfl)⟩ (by omega) (fun v h2 hp_ => ?_) (fun _ _ hx => hx.elim)
    obtain ⟨rfl, H2, U2⟩ := hp_
    exact k_iret C E dX3_child_18 (by omega) ⟨0, rfl, fun z => (by cases z), fun _ => q_step H2 hsep (U1.trans U2 (fun x hx => Or.inl hx))⟩
  | true =>
    refine k_ifne_b C dX3_child_10 (tgt := 19) (by decide) (fun _ => ?_) (fun z => by cases z)
    rw [hok, if_pos rfl] at E
    obtain ⟨f, A, hin, hf, M⟩ := H1.at hok
    have mok := hσ.2.2.1 i.toNat (by omega)
    have hT1 := mok.1
    have hT2 := hT1.2.1
    have l1 := A.1
    have M1 := M.1
    have r1 := runN_c0 hT1 500
    have rb := reachN_b hT1
    generalize hT0 : (σ.ms i.toNat).1 = T at *
    generalize hc0 : runN T 500 c0 = c at *
    have wb : 0 ≤ waysC T c ∧ waysC T c ≤ 17 := by unfold waysC; split <;> omega
    refine k_aload_n C dX3_child_19 rfl ?_
    refine k_get C fg_X3_10 dX3_child_20 (by assumption) (by rfl) ?_
    refine k_iload_n C dX3_child_23 rfl ?_
    refine kx_V C rfl mv_X3_48 dX3_child_24 ((c_get A hin hf)) (by assumption) rfl rfl (Nat.le_of_ble_eq_true rfl) ⟨(Nat.le_of_ble_eq_true rfl), (Nat.le_of_ble_eq_true rfl)⟩ (by omega) (fun v kb hp_ => ?_) (fun _ _ hx => hx.elim)
    obtain ⟨rfl, rfl⟩ := hp_
    refine k_castO C ck_X3_35_5 dX3_child_27 (by assumption) ?_
    refine k_astore_n C dX3_child_30 (Nat.le_of_ble_eq_true rfl) rfl ?_
    refine k_iload_n C dX3_child_31 rfl ?_
    refine k_iconst C dX3_child_32 ?_
    refine k_aload_n C dX3_child_33 rfl ?_
    refine k_aload_n C dX3_child_34 rfl ?_
    refine kx_V C rfl mv_X3_93 dX3_child_35 ((c_mWays M hT1)) (by assumption) rfl rfl (Nat.le_of_ble_eq_true rfl) ⟨(Nat.le_of_ble_eq_true rfl), (Nat.le_of_ble_eq_true rfl)⟩ (by omega) (fun v h2 hp_ => ?_) (fun _ _ hx => hx.elim)
    obtain ⟨rfl, E2⟩ := hp_
    rw [hc0]
    have hm2 := E2.2 _ _ hm1
    have l2 := E2.2 _ _ l1
    refine k_iconst C dX3_child_38 ?_
    refine k_isub C dX3_child_39 ?_
    refine kx_S C rfl ms_X3_27 dX3_child_40 ((c_is (v := way) (a := 0) (b := waysC T c - 1) (by unfold i32 at *; omega))) rfl rfl (Nat.le_of_ble_eq_true rfl) ⟨(Nat.le_of_ble_eq_true rfl), (Nat.le_of_ble_eq_true rfl)⟩ (by omega) (fun v kc hp_ => ?_) (fun _ _ hx => hx.elim)
    obtain ⟨rfl, rfl⟩ := hp_
    by_cases hin2 : 0 ≤ way ∧ way ≤ waysC T c - 1
    · rw [decide_eq_true hin2]
      rw [if_pos hin2] at E
      refine k_ifne_b C dX3_child_43 (tgt := 52) (by decide) (fun _ => ?_) (fun z => by cases z)
      refine k_aload_n C dX3_child_52 rfl ?_
      refine k_get C fg_X3_10 dX3_child_53 (by assumption) (by rfl) ?_
      refine kx_V C rfl mv_X3_23 dX3_child_56 ((c_size l2)) (by assumption) rfl rfl (Nat.le_of_ble_eq_true rfl) ⟨(Nat.le_of_ble_eq_true rfl), (Nat.le_of_ble_eq_true rfl)⟩ (by omega) (fun v kd hp_ => ?_) (fun _ _ hx => hx.elim)
      obtain ⟨rfl, rfl⟩ := hp_
      refine k_bipush C dX3_child_59 (by decide) ?_
      refine k_icmp_ne C dX3_child_61 (tgt := 70) (by decide) (by omega) (fun g1 => ?_) (fun g2 => ?_)
      · rw [if_pos (by omega)] at E
        have hh : hangB T c = true := by
          cases e : hangB T c with
          | true => rfl
          | false => unfold waysC at hin2; rw [e] at hin2; simp at hin2; omega
        have hst := hang_st hh
        have ok := r1.1
        obtain ⟨⟨c1, c2⟩, ⟨c3, c4, c5, c6, c7, c8⟩, c9, c10⟩ := id ok
        have c9' := c9 c.pl
        have hway : 0 ≤ way ∧ way ≤ 4 * reachN T := by
          unfold waysC at hin2
          rw [hh, if_pos rfl] at hin2
          omega
        have M2 := M.ext E2
        have M21 := M2.1
        refine k_aload_n C dX3_child_70 rfl ?_
        refine k_sipush C dX3_child_71 (by decide) ?_
        refine kx_V C rfl mv_X3_81 dX3_child_74 ((c_run (R := 500) (by omega) M2 hT1)) (by assumption) rfl rfl (Nat.le_of_ble_eq_true rfl) ⟨(Nat.le_of_ble_eq_true rfl), (Nat.le_of_ble_eq_true rfl)⟩ (by omega) (fun v h3 hp_ => ?_) (fun _ _ hx => hx.elim)
        obtain ⟨q, tp, rfl, q0, tp0, W3, E3⟩ := hp_
        rw [hc0] at W3
        have E13 := E2.trans E3
        have M3 := M.ext E13
        have M31 := M3.1
        refine k_astore C dX3_child_77 (Nat.le_of_ble_eq_true rfl) rfl ?_
        refine k_new C nw_X3_35 dX3_child_79 (by omega) (fun a h4 N4 => ?_)
        have a4 := N4.2.1
        have M41 := N4.2.2.1.2 _ _ M31
        refine k_dup C dX3_child_82 rfl ?_
        refine k_aload_n C dX3_child_83 rfl ?_
        refine k_getN C fn_X3_52 dX3_child_84 (by assumption) (by rfl) ?_
        refine kx_I C rfl mi_X3_37 dX3_child_87 ((c_mdInit (S := T.1) (by omega) a4)) rfl rfl (Nat.le_of_ble_eq_true rfl) ⟨(Nat.le_of_ble_eq_true rfl), (Nat.le_of_ble_eq_true rfl)⟩ (by omega) (fun v h5 hp_ => ?_) (fun _ _ hx => hx.elim)
        obtain ⟨rfl, cs, cs0, M5, U5⟩ := hp_
        have E15 : Ext kb h5 := U5.ext0 (E13.trans N4.2.2.1) (by simpa using E13.old N4.1)
        have a10 : kb.2 a = none := E13.old N4.1
        have cs10 : kb.2 cs = none := (E13.trans N4.2.2.1).old cs0
        have E35 : Ext h3 h5 := U5.ext0 N4.2.2.1 (by simpa using N4.1)
        have W5 := W3.ext E35
        have csa : cs ≠ a := by
          obtain ⟨e1, fe, e2, -⟩ := M5
          exact ne_cel e2 e1 ne_oa
        obtain ⟨a5, f5, cs5, C5⟩ := M5
        obtain ⟨m0, fc, m1, m2⟩ := id M
        refine k_astore C dX3_child_90 (Nat.le_of_ble_eq_true rfl) rfl ?_
        refine k_iconst C dX3_child_92 ?_
        refine k_istore C dX3_child_93 (Nat.le_of_ble_eq_true rfl) rfl ?_
        have loop : ∀ (d j n k : Nat) (hh : Hp) (g : Int → Option Nat), j + d = 2 * T.1 → n ≤ 6 + j → k ≤ 2035 + 3 * j → hh.2 a = some (.inl (5, [jI (T.1 : Nat), .ref cs, jI (-1), jI (-1), jI (-1)])) → hh.2 cs = some (aR 5 (2 * T.1) g) → (∀ x : Int, 0 ≤ x → x < j → isC hh (g x) (T.2 x)) → Ext kb hh → isRn hh q (L.A i.toNat).1 tp 500 c →
            (∀ (hx : Hp) (n k : Nat) (g : Int → Option Nat), n ≤ 14 → k ≤ 2059 → hx.2 a = some (.inl (5, [jI (T.1 : Nat), .ref cs, jI (-1), jI (-1), jI (-1)])) → hx.2 cs = some (aR 5 (2 * T.1) g) → (∀ x : Int, 0 ≤ x → x < (2 * T.1 : Nat) → isC hx (g x) (T.2 x)) → Ext kb hx → isRn hx q (L.A i.toNat).1 tp 500 c → Wk w K hx n k 146 [some (.ref m), some (jI i), some (jI way), some (.ref (L.A i.toNat).1), some (.ref q), some (.ref a), none, none] []) →
            Wk w K hh n k 95 [some (.ref m), some (jI i), some (jI way), some (.ref (L.A i.toNat).1), some (.ref q), some (.ref a), some (jI (j : Nat)), none] [] := by
          intro d
          induction d with
          | zero =>
            intro j n k hh g hj hn hk ha hc hC E0 W cont
            have hj' : j = 2 * T.1 := by omega
            subst hj'
            have M01 := E0.2 _ _ m0
            have M11 := E0.2 _ _ m1
            refine k_iload C dX3_child_95 rfl ?_
            refine k_aload_n C dX3_child_97 rfl ?_
            refine k_getN C fn_X3_59 dX3_child_98 (by assumption) (by rfl) ?_
            refine k_alen C dX3_child_101 (by assumption) (by rfl) ?_
            refine k_icmp_ge C dX3_child_102 (tgt := 146) (by decide) (by omega) (fun g3 => ?_) (fun g4 => ?_)
            · exact Wk.sub (by repeat (first | exact trivial | apply Lle.so | apply Lle.no)) (cont hh n k g (by omega) (by omega) ha hc hC E0 W)
            · omega
          | succ d ih =>
            intro j n k hh g hj hn hk ha hc hC E0 W cont
            have M01 := E0.2 _ _ m0
            have M11 := E0.2 _ _ m1
            have hcj := m2 (j : Int) (by omega) (by omega)
            refine k_iload C dX3_child_95 rfl ?_
            refine k_aload_n C dX3_child_97 rfl ?_
            refine k_getN C fn_X3_59 dX3_child_98 (by assumption) (by rfl) ?_
            refine k_alen C dX3_child_101 (by assumption) (by rfl) ?_
            refine k_icmp_ge C dX3_child_102 (tgt := 146) (by decide) (by omega) (fun g3 => ?_) (fun g4 => ?_)
            · omega
            · cases hr : T.2 (j : Int) with
              | none =>
                rw [hr] at hcj
                have hf2 : fc (j : Int) = none := hcj
                refine k_aload C dX3_child_105 rfl ?_
                refine k_getN C fn_X3_59 dX3_child_107 (by assumption) (by rfl) ?_
                refine k_iload C dX3_child_110 rfl ?_
                refine k_aload_n C dX3_child_112 rfl ?_
                refine k_getN C fn_X3_59 dX3_child_113 (by assumption) (by rfl) ?_
                refine k_iload C dX3_child_116 rfl ?_
                refine k_aald C dX3_child_118 (by assumption) (by rfl) (by rfl) (by omega) hf2 ?_
                refine k_ifnonnullN C dX3_child_119 ?_
                refine k_null C dX3_child_122 ?_
                refine k_goto C dX3_child_123 (tgt := 139) (by decide) ?_
                refine k_aastN C dX3_child_139 hc (by omega) (fun h6 P6 => ?_)
                refine k_iinc C dX3_child_140 rfl rfl ?_
                refine k_goto C dX3_child_143 (tgt := 95) (by decide) ?_
                exact ih (j + 1) n k h6 _ (by omega) (by omega) (by omega) (P6.2.2 _ _ ha (Ne.symm csa)) P6.2.1 (fun x x0 x1 => by
                  by_cases e : x = j
                  · subst e; rw [up_at, hr]; rfl
                  · rw [up_ne e]; exact (hC x x0 (by omega)).upd5 hc P6.upd) (P6.upd.ext0 E0 (by simpa using cs10)) ⟨P6.2.2 _ _ W.1 (ne_cel W.1 hc ne_ao), P6.2.2 _ _ W.2 (ne_cel W.2 hc (ne_knd (by decide)))⟩ cont
              | some r =>
                rw [hr] at hcj
                obtain ⟨p, gc, hf2, hp, z0, z1, z2⟩ := hcj
                have hp1 := E0.2 _ _ hp
                refine k_aload C dX3_child_105 rfl ?_
                refine k_getN C fn_X3_59 dX3_child_107 (by assumption) (by rfl) ?_
                refine k_iload C dX3_child_110 rfl ?_
                refine k_aload_n C dX3_child_112 rfl ?_
                refine k_getN C fn_X3_59 dX3_child_113 (by assumption) (by rfl) ?_
                refine k_iload C dX3_child_116 rfl ?_
                refine k_aald C dX3_child_118 (by assumption) (by rfl) (by rfl) (by omega) hf2 ?_
                refine k_ifnonnull C dX3_child_119 (tgt := 126) (by decide) ?_
                refine k_aload_n C dX3_child_126 rfl ?_
                refine k_getN C fn_X3_59 dX3_child_127 (by assumption) (by rfl) ?_
                refine k_iload C dX3_child_130 rfl ?_
                refine k_aald C dX3_child_132 (by assumption) (by rfl) (by rfl) (by omega) hf2 ?_
                refine k_cloneI C rfl q1415 dX3_child_133 hp1 ⟨(Nat.le_of_ble_eq_true rfl), (Nat.le_of_ble_eq_true rfl)⟩ (by omega) (fun b h6 N6 => ?_)
                have b6 := N6.2.1
                have c6 := N6.2.2.1.2 _ _ hc
                refine k_castA C q1421 rfl rfl dX3_child_136 (by assumption) ?_
                refine k_aast C dX3_child_139 (by assumption) b6 ⟨rfl, Or.inl rfl⟩ (by omega) (fun h7 P7 => ?_)
                refine k_iinc C dX3_child_140 rfl rfl ?_
                refine k_goto C dX3_child_143 (tgt := 95) (by decide) ?_
                have b7 := P7.2.2 _ _ b6 (ne_cel b6 c6 (ne_knd (by decide)))
                exact ih (j + 1) _ _ h7 _ (by omega) (by omega) (by omega) (P7.2.2 _ _ (N6.2.2.1.2 _ _ ha) (Ne.symm csa)) P7.2.1 (fun x x0 x1 => by
                  by_cases e : x = j
                  · subst e; rw [up_at, hr]; exact ⟨b, gc, rfl, b7, z0, z1, z2⟩
                  · rw [up_ne e]; exact ((hC x x0 (by omega)).ext N6.2.2.1).upd5 c6 P7.upd) (P7.upd.ext0 (E0.trans N6.2.2.1) (by simpa using cs10)) ⟨P7.2.2 _ _ (N6.2.2.1.2 _ _ W.1) (ne_cel (N6.2.2.1.2 _ _ W.1) c6 ne_ao), P7.2.2 _ _ (N6.2.2.1.2 _ _ W.2) (ne_cel (N6.2.2.1.2 _ _ W.2) c6 (ne_knd (by decide)))⟩ cont
        refine Wk.sub (by repeat (first | exact trivial | apply Lle.so | apply Lle.no)) (loop (2 * T.1) 0 _ _ h5 f5 (by omega) (by omega) (by omega) a5 cs5 (fun x x0 x1 => by omega) E15 W5 (fun hx n k g hn hk ha hc hC E0 W => ?_))
        -- the cell is there: the rest
        have tail : ∀ (hy : Hp) (ru : Nat) (gg : Int → Int), Ext hx hy → hy.2 ru = some (aI 0 3 gg) → gg 0 = (childR T way).1 → gg 1 = (childR T way).2.1 → gg 2 = (childR T way).2.2 → Wk w K hy (n + 1) (k + 3) 209 [some (.ref m), some (jI i), some (jI way), some (.ref (L.A i.toNat).1), some (.ref q), some (.ref a), some (jI (way - 1)), none] [.ref ru] := by
          intro hy ru gg EY hru y0 y1 y2
          have ha1 := EY.2 _ _ ha
          have hc1 := EY.2 _ _ hc
          have WY := W.ext EY
          have WY1 := WY.1
          have E1Y := E0.trans EY
          refine k_astore C dX3_child_209 (Nat.le_of_ble_eq_true rfl) rfl ?_
          refine k_aload C dX3_child_211 rfl ?_
          refine k_getN C fn_X3_59 dX3_child_213 (by assumption) (by rfl) ?_
          refine k_iconst C dX3_child_216 ?_
          refine k_aload C dX3_child_217 rfl ?_
          refine k_getN C fn_X3_103 dX3_child_219 (by assumption) (by rfl) ?_
          refine k_imul C dX3_child_222 ?_
          refine k_aload C dX3_child_223 rfl ?_
          refine kx_V C rfl mv_X3_106 dX3_child_225 ((c_rnUnder (by omega) WY ok (by omega))) (by assumption) rfl rfl (Nat.le_of_ble_eq_true rfl) ⟨(Nat.le_of_ble_eq_true rfl), (Nat.le_of_ble_eq_true rfl)⟩ (by omega) (fun v kq hp_ => ?_) (fun _ _ hx => hx.elim)
          obtain ⟨rfl, rfl⟩ := hp_
          refine k_iadd C dX3_child_228 ?_
          refine k_aload C dX3_child_229 rfl ?_
          refine k_aast C dX3_child_231 (by assumption) hru ⟨rfl, Or.inl rfl⟩ (by omega) (fun h8 P8 => ?_)
          have ru8 := P8.2.2 _ _ hru (ne_cel hru hc1 (ne_knd (by decide)))
          have a8 := P8.2.2 _ _ ha1 (Ne.symm csa)
          have E18 : Ext kb h8 := P8.upd.ext0 E1Y (by simpa using cs10)
          have M8 : isMd h8 a cs (childT T way) (-1) (-1) (-1) := ⟨a8, _, P8.2.1, fun x x0 x1 => by
            unfold childT tset
            rw [hc0]
            dsimp only
            by_cases e : x = 2 * c.st + c.tp c.pl
            · subst e; rw [up_at, up_at]; exact ⟨ru, gg, rfl, ru8, y0, y1, y2⟩
            · rw [up_ne e, up_ne e]; exact ((hC x x0 x1).ext EY).upd5 hc1 P8.upd⟩
          have H8 := H1.ext E18
          obtain ⟨f8, A8, F8⟩ := H8.2.1
          have hm8 := H8.1
          have l8 := A8.1
          have el : isEl h8 σ.n f8 := fun j j0 j1 => by
            have hj := F8 j.toNat (by omega)
            rw [show ((j.toNat : Nat) : Int) = j by omega] at hj
            exact ⟨_, _, hj, (H8.2.2.2.1 j.toNat (by omega)).1, rfl⟩
          have hcm := hsep.1.1
          have hlt : L.cm ≤ 15 := by
            rw [hcm]
            have : ∀ n, n < 12 → capOf n ≤ 15 := by decide
            exact this σ.n (by omega)
          have hcost : gcC σ.n L.cm ≤ 1 ∧ gcS σ.n L.cm ≤ 15 := by
            rw [hcm]
            have : ∀ n, n < 12 → gcC n (capOf n) ≤ 1 ∧ gcS n (capOf n) ≤ 15 := by decide
            exact this σ.n (by omega)
          have al : a ≠ L.lm := ne_some a10 A.1
          have aa : a ≠ L.am := ne_some a10 A.2.1
          refine k_aload_n C dX3_child_232 rfl ?_
          refine k_get C fg_X3_10 dX3_child_233 (by assumption) (by rfl) ?_
          refine k_aload C dX3_child_236 rfl ?_
          refine kx_V C rfl mv_X3_40 dX3_child_238 ((c_add A8 (by omega) el a8 rfl al aa)) (by assumption) rfl rfl (Nat.le_of_ble_eq_true rfl) ⟨(Nat.le_of_ble_eq_true rfl), (Nat.le_of_ble_eq_true rfl)⟩ (by omega) (fun v h9 hp_ => ?_) (fun _ _ hx => hx.elim)
          obtain ⟨rfl, q9, g', r1', r2, r3, r4⟩ := hp_
          have l9 := r1'.1
          have old1 : ∀ y, kb.2 y = none → h.2 y = none := fun y e => by
            cases ey : h.2 y with
            | none => rfl
            | some d =>
              by_cases ym : y = m
              · rw [ym, hm1] at e; cases e
              · rw [P1.2.2 _ _ ey ym] at e; cases e
          have st := madd_step (mc := (childT T way, none, -1, -1)) H8 hsep (fun y c e => by
              by_cases ym : y = m
              · rw [ym, hm8]; exact fun z => by cases z
              · rw [E18.2 _ _ (P1.2.2 _ _ e ym)]; exact fun z => by cases z) ((U1.updP (P := fun q => q = m) (fun y hy => by simpa using hy)).trans (E18.updP (fun q => q = m)) (fun y hy => Or.inl hy)) M8 (old1 _ a10) (old1 _ cs10) (fun j hj => ne_some a10 (H1.2.2.2.1 j hj).1) (fun j hj => by
              obtain ⟨-, fi, ei, -⟩ := H1.2.2.2.1 j hj
              exact ne_some cs10 ei) al (ne_some cs10 A.2.1) r1' (fun j hj => by rw [r2 j (by omega) (by omega)]; exact F8 j hj) r3 r4
          have m9 : ∃ v, h9.2 m = some (.inl (2, [v, .ref L.lm, .ref L.lt, jI ((σ.tk : Nat) + (σ.rf : Nat)), jI (σ.tk : Nat), jI (σ.bk : Nat), .long s])) := by
            rcases r4 with ⟨-, -, u⟩ | ⟨-, -, u⟩
            · exact ⟨_, u.2 _ _ hm8 (by simp [ne_cel hm8 A8.1 (ne_cls (by decide)), ne_cel hm8 A8.2.1 ne_ao])⟩
            · exact ⟨_, u.2 _ _ hm8 (by simp [ne_cel hm8 A8.1 (ne_cls (by decide))])⟩
          obtain ⟨vv, m9⟩ := m9
          refine k_pop C dX3_child_241 rfl ?_
          refine k_aload_n C dX3_child_242 rfl ?_
          refine k_get C fg_X3_10 dX3_child_243 (by assumption) (by rfl) ?_
          refine kx_V C rfl mv_X3_23 dX3_child_246 ((c_size l9)) (by assumption) rfl rfl (Nat.le_of_ble_eq_true rfl) ⟨(Nat.le_of_ble_eq_true rfl), (Nat.le_of_ble_eq_true rfl)⟩ (by omega) (fun v k7 hp_ => ?_) (fun _ _ hx => hx.elim)
          obtain ⟨rfl, rfl⟩ := hp_
          refine k_iconst C dX3_child_249 ?_
          refine k_isub C dX3_child_250 ?_
          rw [show ((σ.n + 1 : Nat) : Int) - 1 = (σ.n : Nat) by omega]
          exact k_iret C E dX3_child_251 (by omega) ⟨_, rfl, fun _ => ⟨rfl, st⟩, fun z => absurd rfl z⟩
        have M0x := E0.2 _ _ m0
        refine k_iload_n C dX3_child_146 rfl ?_
        refine k_iconst C dX3_child_147 ?_
        refine k_isub C dX3_child_148 ?_
        refine k_istore C dX3_child_149 (Nat.le_of_ble_eq_true rfl) rfl ?_
        refine k_iconst C dX3_child_151 ?_
        refine k_newarr (kd := 0) (g := fun j : Nat => jI ((fun _ => 0 : Int → Int) (j : Int))) C q358 rfl rfl (fun _ => rfl) dX3_child_152 (by omega) (by decide) (by omega) (fun ru h6 N6 => ?_)
        have ru6 : h6.2 ru = some (aI 0 3 (fun _ => 0)) := N6.2.1
        have M06 := N6.2.2.1.2 _ _ M0x
        refine k_dup C dX3_child_154 rfl ?_
        refine k_iconst C dX3_child_155 ?_
        refine k_iload_n C dX3_child_156 rfl ?_
        refine k_if_ne C dX3_child_157 (tgt := 164) (by decide) (by omega) (fun g3 => ?_) (fun g4 => ?_)
        · refine k_iconst C dX3_child_164 ?_
          refine k_iload C dX3_child_165 rfl ?_
          refine k_iconst C dX3_child_167 ?_
          refine k_irem C dX3_child_168 (by omega) ?_
          refine k_isub C dX3_child_169 ?_
          refine k_iast C dX3_child_170 (by assumption) (by omega) (fun h7 P7 => ?_)
          have ru7 := P7.2.1
          have M07 := P7.2.2 _ _ M06 (ne_cel M06 ru6 ne_ao)
          refine k_dup C dX3_child_171 rfl ?_
          refine k_iconst C dX3_child_172 ?_
          refine k_iload_n C dX3_child_173 rfl ?_
          refine k_if_eq C dX3_child_174 (tgt := 185) (by decide) (by omega) (fun g5 => ?_) (fun g6 => ?_)
          · exact absurd g5 g3
          · have mv : ∀ b : Int, (b = if (way - 1) % 4 < 2 then 1 else -1) → Wk w K h7 (n + 1) (k + 3) 190 [some (.ref m), some (jI i), some (jI way), some (.ref (L.A i.toNat).1), some (.ref q), some (.ref a), some (jI (way - 1)), none] [jI b, jI 1, .ref ru, .ref ru] := by
              intro b hb
              refine k_iast C dX3_child_190 (by assumption) (by omega) (fun h8 P8 => ?_)
              have ru8 := P8.2.1
              refine k_dup C dX3_child_191 rfl ?_
              refine k_iconst C dX3_child_192 ?_
              refine k_iload_n C dX3_child_193 rfl ?_
              refine k_if_ne C dX3_child_194 (tgt := 204) (by decide) (by omega) (fun g7 => ?_) (fun g8 => ?_)
              · refine k_iload C dX3_child_204 rfl ?_
                refine k_iconst C dX3_child_206 ?_
                refine k_idiv C dX3_child_207 (by omega) ?_
                refine k_iast C dX3_child_208 (by assumption) (by omega) (fun h9 P9 => ?_)
                have N9 := ((N6.put P7).put P8).put P9
                refine tail h9 ru _ N9.2.2.1 P9.2.1 ?_ ?_ ?_
                · rw [up_ne (by decide), up_ne (by decide), up_at]; unfold childR; rw [if_neg g3]
                · rw [up_ne (by decide), up_at, hb]; unfold childR; rw [if_neg g3]
                · rw [up_at]; unfold childR; rw [if_neg g3]
              · exact absurd g8 g3
            refine k_iload C dX3_child_177 rfl ?_
            refine k_iconst C dX3_child_179 ?_
            refine k_irem C dX3_child_180 (by omega) ?_
            refine k_iconst C dX3_child_181 ?_
            refine k_icmp_ge C dX3_child_182 (tgt := 189) (by decide) (by omega) (fun g7 => ?_) (fun g8 => ?_)
            · refine k_iconst C dX3_child_189 ?_
              exact mv (-1) (by rw [if_neg (by omega)])
            · refine k_iconst C dX3_child_185 ?_
              refine k_goto C dX3_child_186 (tgt := 190) (by decide) ?_
              exact mv 1 (by rw [if_pos (by omega)])
        · refine k_iconst C dX3_child_160 ?_
          refine k_goto C dX3_child_161 (tgt := 170) (by decide) ?_
          refine k_iast C dX3_child_170 (by assumption) (by omega) (fun h7 P7 => ?_)
          have ru7 := P7.2.1
          have M07 := P7.2.2 _ _ M06 (ne_cel M06 ru6 ne_ao)
          refine k_dup C dX3_child_171 rfl ?_
          refine k_iconst C dX3_child_172 ?_
          refine k_iload_n C dX3_child_173 rfl ?_
          refine k_if_eq C dX3_child_174 (tgt := 185) (by decide) (by omega) (fun g5 => ?_) (fun g6 => ?_)
          · refine k_iconst C dX3_child_185 ?_
            refine k_goto C dX3_child_186 (tgt := 190) (by decide) ?_
            refine k_iast C dX3_child_190 (by assumption) (by omega) (fun h8 P8 => ?_)
            have ru8 := P8.2.1
            have M08 := P8.2.2 _ _ M07 (ne_cel M07 ru7 ne_ao)
            refine k_dup C dX3_child_191 rfl ?_
            refine k_iconst C dX3_child_192 ?_
            refine k_iload_n C dX3_child_193 rfl ?_
            refine k_if_ne C dX3_child_194 (tgt := 204) (by decide) (by omega) (fun g7 => ?_) (fun g8 => ?_)
            · exact absurd g4 g7
            · refine k_aload_n C dX3_child_197 rfl ?_
              refine k_getN C fn_X3_52 dX3_child_198 (by assumption) (by rfl) ?_
              refine k_goto C dX3_child_201 (tgt := 208) (by decide) ?_
              refine k_iast C dX3_child_208 (by assumption) (by omega) (fun h9 P9 => ?_)
              have N9 := ((N6.put P7).put P8).put P9
              refine tail h9 ru _ N9.2.2.1 P9.2.1 ?_ ?_ ?_
              · rw [up_ne (by decide), up_ne (by decide), up_at]; unfold childR; rw [if_pos g4]
              · rw [up_ne (by decide), up_at]; unfold childR; rw [if_pos g4]
              · rw [up_at]; unfold childR; rw [if_pos g4]
          · exact absurd g4 g6
      · rw [if_neg (by omega)] at E
        have H2 := H1.ext E2
        refine k_aload_n C dX3_child_64 rfl ?_
        refine k_iconst C dX3_child_65 ?_
        refine kx_V C rfl mv_X3_31 dX3_child_66 ((c_mRefuse (z := 3) H2)) (by assumption) rfl rfl (Nat.le_of_ble_eq_true rfl) ⟨(Nat.le_of_ble_eq_true rfl), (Nat.le_of_ble_eq_true rfl)⟩ (by omega) (fun v h3 hp_ => ?_) (fun _ _ hx => hx.elim)
        obtain ⟨rfl, H3, U3⟩ := hp_
        exact k_iret C E dX3_child_69 (by omega) ⟨0, rfl, fun z => (by cases z), fun _ => q_step H3 hsep ((U1.trans (E2.upd [m]) (fun x hx => Or.inl hx)).trans U3 (fun x hx => Or.inl hx))⟩
    · rw [decide_eq_false hin2]
      rw [if_neg hin2] at E
      have H2 := H1.ext E2
      refine k_ifne_b C dX3_child_43 (tgt := 52) (by decide) (fun z => by cases z) (fun _ => ?_)
      refine k_aload_n C dX3_child_46 rfl ?_
      refine k_iconst C dX3_child_47 ?_
      refine kx_V C rfl mv_X3_31 dX3_child_48 ((c_mRefuse (z := 2) H2)) (by assumption) rfl rfl (Nat.le_of_ble_eq_true rfl) ⟨(Nat.le_of_ble_eq_true rfl), (Nat.le_of_ble_eq_true rfl)⟩ (by omega) (fun v h3 hp_ => ?_) (fun _ _ hx => hx.elim)
      obtain ⟨rfl, H3, U3⟩ := hp_
      exact k_iret C E dX3_child_51 (by omega) ⟨0, rfl, fun z => (by cases z), fun _ => q_step H3 hsep ((U1.trans (E2.upd [m]) (fun x hx => Or.inl hx)).trans U3 (fun x hx => Or.inl hx))⟩
