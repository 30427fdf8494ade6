/-! ===== the looks of a walk; the least cycle ===== -/
set_option maxRecDepth 100000
theorem capOf_b : ∀ n : Nat, capOf n ≤ 2 * n + 10
  | 0 => by decide
  | n + 1 => by
    have := capOf_b n
    show ncp n (capOf n) ≤ _
    unfold ncp ncap
    split
    · split <;> omega
    · omega
theorem capOf_pos {n : Nat} (h : 0 < capOf n) : 0 < n := by
  cases n with
  | zero => exact absurd h (by decide)
  | succ n => omega
/-- one more in a list that was made since h0 -/
theorem c_push {w : Wd} {h0 h : Hp} {l ar n y : Nat} {f : Int → Option Nat} {c : Cel} (H : isAL w h l ar n (capOf n) f) (hn : n < 10000) (hE : isEl h n f) (hy : h.2 y = some c) (hok : okE c = true) (hyl : y ≠ l) (hya : y ≠ ar) (E : Ext h0 h) (l0 : h0.2 l = none) (a0 : 0 < n → h0.2 ar = none) :
    Ct w yJ2_add (ws_ yJ2_add cJ2_add 2 (some FieldType.boolean)) 7 190 (gcC n (capOf n)) (gcS n (capOf n)) [.ref l, .ref y] h (fun v h' => v = some (jI (b2i true)) ∧ ∃ (q : Nat) (g : Int → Option Nat), isAL w h' l q (n + 1) (capOf (n + 1)) g ∧ (∀ i : Int, 0 ≤ i → i < n → g i = f i) ∧ g n = some y ∧ Ext h0 h' ∧ h0.2 q = none ∧ Upd h h' [l, ar]) NoX := by
  have := capOf_b n
  refine (c_add H (by omega) hE hy hok hyl hya).mono (fun v h' e => ?_) (fun _ _ x => x)
  obtain ⟨e1, q, g, e2, e3, e4, e5⟩ := e
  exact ⟨e1, q, g, e2, e3, e4, push_ext E l0 (fun z => a0 (capOf_pos z)) e5⟩
theorem isLkA.upd {h h' : Hp} {o tq R : Nat} {c : Cf} {S : List Nat} (U : Upd h h' S) (h1 : o ∉ S) (h2 : tq ∉ S) (H : isLkA h o tq R c) : isLkA h' o tq R c := ⟨U.2 _ _ H.1 h1, U.2 _ _ H.2 h2⟩
theorem Upd.ext0 {h0 h h' : Hp} {S : List Nat} (E : Ext h0 h) (U : Upd h h' S) (hS : ∀ q ∈ S, h0.2 q = Option.none) : Ext h0 h' := ⟨Nat.le_trans E.1 U.1, fun x d e => U.2 _ _ (E.2 _ _ e) (fun hx => by rw [hS x hx] at e; cases e)⟩
theorem Ext.old {h h' : Hp} {q : Nat} (E : Ext h h') (e : h'.2 q = Option.none) : h.2 q = Option.none := by
  cases e2 : h.2 q with
  | none => rfl
  | some d => rw [E.2 _ _ e2] at e; cases e
/-- a list of looks: i of them, not on the tape tp -/
def isLs (h : Hp) (T : Tb) (R i tp : Nat) (f : Int → Option Nat) : Prop := ∀ k : Nat, k < i → ∃ o tq, f k = some o ∧ isLkA h o tq R (runN T k c0) ∧ tq ≠ tp
theorem isLs.el {h : Hp} {T : Tb} {R i tp : Nat} {f : Int → Option Nat} (H : isLs h T R i tp f) : isEl h i f := fun j h0 h1 => by
  obtain ⟨o, tq, e1, e2, -⟩ := H j.toNat (by omega)
  rw [show ((j.toNat : Nat) : Int) = j by omega] at e1
  exact ⟨o, _, e1, e2.1, rfl⟩
theorem isLs.upd {h h' : Hp} {T : Tb} {R i tp : Nat} {f : Int → Option Nat} {S : List Nat} (U : Upd h h' S) (H : isLs h T R i tp f) (hS : ∀ q ∈ S, q = tp ∨ h.2 q = none ∨ ∃ d : Cel, h.2 q = some d ∧ (∀ x : List Value, d ≠ .inl (10, x)) ∧ (∀ (x : Nat) (y : Nat → Value), d ≠ .inr (0, x, y))) (ht : ∀ x, h.2 tp ≠ some (.inl (10, x))) : isLs h' T R i tp f := fun k hk => by
  obtain ⟨o, tq, e1, e2, e3⟩ := H k hk
  refine ⟨o, tq, e1, e2.upd U (fun z => ?_) (fun z => ?_), e3⟩
  · rcases hS o z with q | q | ⟨d, q1, q2, q3⟩
    · exact ht _ (by rw [← q]; exact e2.1)
    · rw [e2.1] at q; cases q
    · rw [e2.1] at q1; exact q2 _ (Option.some.inj q1).symm
  · rcases hS tq z with q | q | ⟨d, q1, q2, q3⟩
    · exact e3 q
    · rw [e2.2] at q; cases q
    · rw [e2.2] at q1; exact q3 _ _ (Option.some.inj q1).symm
theorem runN_full {T : Tb} {k m : Nat} (h : k ≤ (runN T m c0).n) : (runN T k c0).n = k := by
  have e : c0.n = 0 := rfl
  have h0 := runN_n (T := T) m c0
  have h1 := runN_n (T := T) k c0
  by_cases hk : (runN T k c0).n = k
  · exact hk
  · have h2 := h1.2.2 (by omega)
    have h3 : runN T m c0 = runN T k c0 := by
      rw [show m = k + (m - k) by omega, runN_add, runN_stop h2]
    rw [h3] at h
    omega
/-- the room of looks -/
def lkC (b : Nat) : Nat := 5 + 2 * b + payC (b + 1)
def lkS (b : Nat) : Nat := 11 + (2 * b + 1) + (b + 1) * (2 * b + 5) + payS (b + 1)
theorem c_looks {w : Wd} {h : Hp} {t lst ar0 b : Nat} {T : Tb} (G : isTb w h t lst ar0 T) (hT : TbOk T) (hb : b < 900) : Ct w yX1_looks (ws_ yX1_looks cX1_looks 4 (some (FieldType.object "java/util/List"))) 8 211 (lkC b) (lkS b) [.ref t, jI (b : Nat)] h (fun v h' => ∃ l ar f tp, v = some (.ref l) ∧ isAL w h' l ar ((runN T b c0).n + 1) (capOf ((runN T b c0).n + 1)) f ∧ isLs h' T b ((runN T b c0).n + 1) tp f ∧ Ext h h') NoX := by
  have hp1 := payC_le (show 0 ≤ b + 1 by omega)
  have hp2 := payS_le (show 0 ≤ b + 1 by omega)
  have hb2 : 1 * (2 * b + 5) ≤ (b + 1) * (2 * b + 5) := Nat.mul_le_mul_right _ (by omega)
  have hC : lkC b = 5 + 2 * b + payC (b + 1) := rfl
  have hS : lkS b = 11 + (2 * b + 1) + (b + 1) * (2 * b + 5) + payS (b + 1) := rfl
  refine Ct.of (by decide) [some (.ref t), some (jI (b : Nat)), none, none] rfl (Nat.le_of_ble_eq_true rfl) (fun K C E N0 => ?_)
  refine k_new C nw_X1_46 dX1_looks_0 (by omega) (fun l h1 N1 => ?_)
  have l1 := N1.2.1
  refine k_dup C dX1_looks_3 rfl ?_
  refine kx_I C rfl mi_X1_48 dX1_looks_4 ((c_alInit l1)) rfl rfl (Nat.le_of_ble_eq_true rfl) ⟨(Nat.le_of_ble_eq_true rfl), (Nat.le_of_ble_eq_true rfl)⟩ (by omega) (fun v h2 hp_ => ?_) (fun _ _ hx => hx.elim)
  obtain ⟨rfl, P2⟩ := hp_
  have l2 := P2.2.1
  have E2 : Ext h h2 := P2.upd.ext0 N1.2.2.1 (by simpa using N1.1)
  refine k_astore_n C dX1_looks_7 (Nat.le_of_ble_eq_true rfl) rfl ?_
  refine k_new C nw_X1_3 dX1_looks_8 (by omega) (fun q h3 N3 => ?_)
  have l3 := N3.2.2.1.2 _ _ l2
  have q3 := N3.2.1
  have E3 := E2.trans N3.2.2.1
  have q0 := E2.old N3.1
  have ql : l ≠ q := N3.ne l2
  refine k_dup C dX1_looks_11 rfl ?_
  refine k_aload_n C dX1_looks_12 rfl ?_
  refine k_iload_n C dX1_looks_13 rfl ?_
  refine kx_I C rfl mi_X1_5 dX1_looks_14 ((c_wkInit (R := b) (by omega) q3)) rfl rfl (Nat.le_of_ble_eq_true rfl) ⟨(Nat.le_of_ble_eq_true rfl), (Nat.le_of_ble_eq_true rfl)⟩ (by omega) (fun v h4 hp_ => ?_) (fun _ _ hx => hx.elim)
  obtain ⟨rfl, tp, t3, W4, U4⟩ := hp_
  have l4 := U4.2 _ _ l3 (by simpa using ql)
  have E4 := U4.ext0 E3 (by simpa using q0)
  have tp0 := E3.old t3
  have W41 := W4.1
  refine k_astore_n C dX1_looks_17 (Nat.le_of_ble_eq_true rfl) rfl ?_
  refine k_aload_n C dX1_looks_18 rfl ?_
  refine k_new C nw_X1_13 dX1_looks_19 (by omega) (fun o h5 N5 => ?_)
  have o5 := N5.2.1
  have l5 := N5.2.2.1.2 _ _ l4
  have lo : l ≠ o := N5.ne l4
  have qo : q ≠ o := N5.ne W4.1
  have to : tp ≠ o := N5.ne W4.2
  have W5 := W4.ext N5.2.2.1
  refine k_dup C dX1_looks_22 rfl ?_
  refine k_aload_n C dX1_looks_23 rfl ?_
  refine kx_I C rfl mi_X1_15 dX1_looks_24 ((c_lkInit (T := T) (by omega) W5 c0_ok (Nat.zero_le _) o5)) rfl rfl (Nat.le_of_ble_eq_true rfl) ⟨(Nat.le_of_ble_eq_true rfl), (Nat.le_of_ble_eq_true rfl)⟩ (by omega) (fun v h6 hp_ => ?_) (fun _ _ hx => hx.elim)
  obtain ⟨rfl, tq, tq0, L6, U6⟩ := hp_
  have l6 := U6.2 _ _ l5 (by simpa using lo)
  have W6 := W5.upd U6 (by simpa using qo) (by simpa using to)
  have E5 := E4.trans N5.2.2.1
  have E6 := U6.ext0 E5 (by simpa using E4.old N5.1)
  have tqt : tq ≠ tp := fun z => by rw [z, W5.2] at tq0; cases tq0
  refine Wk.wf fun _ _ _ hc => ?_
  have A6 : isAL w h6 l (w.ad 5) 0 (capOf 0) (fun _ => none) := ⟨l6, hc.2.2.2.2.2.1, Nat.le_refl _, by decide, fun _ => rfl⟩
  have ol : o ≠ l := Ne.symm lo
  have p1 := payC_le (show 1 ≤ b + 1 by omega)
  have p2 := payS_le (show 1 ≤ b + 1 by omega)
  have p3 : (payC 1 = 1 ∧ payS 1 = 10) ∧ (payC (0 + 1) = 1 ∧ payS (0 + 1) = 10) ∧ gcC 0 (capOf 0) = 1 ∧ gcS 0 (capOf 0) = 10 := by decide
  have el0 : isEl h6 0 (fun _ => none) := fun j j0 j1 => absurd j1 (by omega)
  have z0 : 0 < 0 → h.2 (w.ad 5) = none := fun z => absurd z (by omega)
  have oa : o ≠ w.ad 5 := ne_cel L6.1 hc.2.2.2.2.2.1 ne_ao
  refine kx_F C rfl mf_X1_50 dX1_looks_27 ((c_push (h0 := h) A6 (by omega) el0 L6.1 rfl ol oa E6 N1.1 z0)) (by assumption) rfl rfl (Nat.le_of_ble_eq_true rfl) ⟨(Nat.le_of_ble_eq_true rfl), (Nat.le_of_ble_eq_true rfl)⟩ (by omega) (fun v h7 hp_ => ?_) (fun _ _ hx => hx.elim)
  obtain ⟨rfl, ar, g, A7, g1, g2, E7, ar0', U7⟩ := hp_
  have W7 := W6.upd U7 (by simp [Ne.symm ql, ne_cel W6.1 hc.2.2.2.2.2.1 ne_ao]) (by simp [ne_cel W6.2 l6 ne_oa, ne_cel W6.2 hc.2.2.2.2.2.1 (ne_knd (by decide))])
  have L7 := L6.upd U7 (by simp [ol, ne_cel L6.1 hc.2.2.2.2.2.1 ne_ao]) (by simp [ne_cel L6.2 l6 ne_oa, ne_cel L6.2 hc.2.2.2.2.2.1 (ne_knd (by decide))])
  refine k_pop C dX1_looks_32 rfl ?_
  have loop : ∀ (d i ar n k : Nat) (hh : Hp) (f : Int → Option Nat), i + d = b → n = 5 + 2 * i + payC (i + 1) → k = 11 + (2 * b + 1) + (i + 1) * (2 * b + 5) + payS (i + 1) → (runN T i c0).n = i → isAL w hh l ar (i + 1) (capOf (i + 1)) f → isLs hh T b (i + 1) tp f → isWk hh q t tp b (runN T i c0) → Ext h hh → h.2 ar = none → Wk w K hh n k 33 [some (.ref t), some (jI (b : Nat)), some (.ref l), some (.ref q)] [] := by
    intro d
    induction d with
    | zero =>
      intro i ar n k hh f hi hn hk h1 h2 h3 h4 h5 h6
      have hi' : i = b := by omega
      subst hi'
      have l1 := h2.1
      have h41 := h4.1
      refine k_aload_n C dX1_looks_33 rfl ?_
      refine kx_F C rfl mf_X1_56 dX1_looks_34 ((c_size l1)) (by assumption) rfl rfl (Nat.le_of_ble_eq_true rfl) ⟨(Nat.le_of_ble_eq_true rfl), (Nat.le_of_ble_eq_true rfl)⟩ (by omega) (fun v h7 hp_ => ?_) (fun _ _ hx => hx.elim)
      obtain ⟨rfl, rfl⟩ := hp_
      refine k_iload_n C dX1_looks_39 rfl ?_
      refine k_icmp_gt C dX1_looks_40 (tgt := 72) (by decide) (by omega) (fun g1 => ?_) (fun g2 => ?_)
      · refine k_aload_n C dX1_looks_72 rfl ?_
        exact k_aret C (Or.inl ⟨_, rfl⟩) E dX1_looks_73 (by omega) ⟨l, ar, f, tp, rfl, by rw [h1]; exact h2, by rw [h1]; exact h3, h5⟩
      · omega
    | succ d ih =>
      intro i ar n k hh f hi hn hk h1 h2 h3 h4 h5 h6
      have l1 := h2.1
      have ar1 := h2.2.1
      have h41 := h4.1
      have G' := G.ext h5
      have q1 := payC_le (show i + 2 ≤ b + 1 by omega)
      have q2 := payS_le (show i + 2 ≤ b + 1 by omega)
      have q3 : payC (i + 2) = payC (i + 1) + gcC (i + 1) (capOf (i + 1)) := rfl
      have q4 : payS (i + 2) = payS (i + 1) + gcS (i + 1) (capOf (i + 1)) := rfl
      have q5 : (i + 2) * (2 * b + 5) = (i + 1) * (2 * b + 5) + (2 * b + 5) := by rw [show i + 2 = (i + 1) + 1 by omega, Nat.succ_mul]
      have q6 : (i + 2) * (2 * b + 5) ≤ (b + 1) * (2 * b + 5) := Nat.mul_le_mul_right _ (by omega)
      refine k_aload_n C dX1_looks_33 rfl ?_
      refine kx_F C rfl mf_X1_56 dX1_looks_34 ((c_size l1)) (by assumption) rfl rfl (Nat.le_of_ble_eq_true rfl) ⟨(Nat.le_of_ble_eq_true rfl), (Nat.le_of_ble_eq_true rfl)⟩ (by omega) (fun v h7 hp_ => ?_) (fun _ _ hx => hx.elim)
      obtain ⟨rfl, rfl⟩ := hp_
      refine k_iload_n C dX1_looks_39 rfl ?_
      refine k_icmp_gt C dX1_looks_40 (tgt := 72) (by decide) (by omega) (fun g1 => ?_) (fun g2 => ?_)
      · omega
      · refine k_aload_n C dX1_looks_43 rfl ?_
        have r1 := runN_c0 hT i
        refine kx_V C rfl mv_X1_22 dX1_looks_44 ((c_goesOn (by omega) h4 G' hT r1.1 (by omega))) (by assumption) rfl rfl (Nat.le_of_ble_eq_true rfl) ⟨(Nat.le_of_ble_eq_true rfl), (Nat.le_of_ble_eq_true rfl)⟩ (by omega) (fun v h8 hp_ => ?_) (fun _ _ hx => hx.elim)
        obtain ⟨rfl, rfl⟩ := hp_
        refine k_ifeq_b C dX1_looks_47 (tgt := 72) (by decide) (fun g3 => ?_) (fun g4 => ?_)
        · have g3' : nxt T (runN T i c0) = none := by simpa using g3
          have ee : runN T b c0 = runN T i c0 := by rw [show b = i + (b - i) by omega, runN_add, runN_stop g3']
          refine k_aload_n C dX1_looks_72 rfl ?_
          exact k_aret C (Or.inl ⟨_, rfl⟩) E dX1_looks_73 (by omega) ⟨l, ar, f, tp, rfl, by rw [ee, h1]; exact h2, by rw [ee, h1]; exact h3, h5⟩
        · obtain ⟨r, hr⟩ := Option.isSome_iff_exists.mp g4
          have ea := runN_snoc hr
          have r2 := runN_c0 hT (i + 1)
          refine k_aload_n C dX1_looks_50 rfl ?_
          refine kx_V C rfl mv_X1_26 dX1_looks_51 ((c_step (by omega) h4 G' hT r1.1 (by omega) hr)) (by assumption) rfl rfl (Nat.le_of_ble_eq_true rfl) ⟨(Nat.le_of_ble_eq_true rfl), (Nat.le_of_ble_eq_true rfl)⟩ (by omega) (fun v h9 hp_ => ?_) (fun _ _ hx => hx.elim)
          obtain ⟨rfl, U9, W9⟩ := hp_
          rw [← ea] at W9
          have n9 : (runN T (i + 1) c0).n = i + 1 := by rw [ea]; show (runN T i c0).n + 1 = i + 1; rw [h1]
          have tl : ∀ x, h8.2 tp ≠ some (.inl (10, x)) := fun x e => by rw [h4.2] at e; cases e
          have lq : l ≠ q := ne_cel l1 h41 (ne_cls (by decide))
          have lt : l ≠ tp := ne_cel l1 h4.2 ne_ao
          have aq : ar ≠ q := ne_cel ar1 h41 ne_oa
          have at' : ar ≠ tp := ne_cel ar1 h4.2 (ne_knd (by decide))
          have A9 := h2.upd U9 (by simp [lq, lt]) (by simp [aq, at'])
          have S9 : isLs h9 T b (i + 1) tp f := h3.upd U9 (fun x hx => by
            have hx' : x = q ∨ x = tp := by simpa using hx
            rcases hx' with z | z
            · exact Or.inr (Or.inr ⟨_, by rw [z]; exact h41, fun x e => (by cases e), fun x y e => (by cases e)⟩)
            · exact Or.inl z) tl
          have E9 := U9.ext0 h5 (by simp [q0, tp0])
          have h91 := W9.1
          have l9 := A9.1
          refine k_aload_n C dX1_looks_54 rfl ?_
          refine k_new C nw_X1_13 dX1_looks_55 (by omega) (fun o hA NA => ?_)
          have oA := NA.2.1
          have WA := W9.ext NA.2.2.1
          have AA := A9.ext NA.2.2.1
          refine k_dup C dX1_looks_58 rfl ?_
          refine k_aload_n C dX1_looks_59 rfl ?_
          refine kx_I C rfl mi_X1_15 dX1_looks_60 ((c_lkInit (by omega) WA r2.1 (by omega) oA)) rfl rfl (Nat.le_of_ble_eq_true rfl) ⟨(Nat.le_of_ble_eq_true rfl), (Nat.le_of_ble_eq_true rfl)⟩ (by omega) (fun v hB hp_ => ?_) (fun _ _ hx => hx.elim)
          obtain ⟨rfl, tq, tq0, LB, UB⟩ := hp_
          have lo : l ≠ o := NA.ne A9.1
          have ao : ar ≠ o := NA.ne A9.2.1
          have qo : q ≠ o := NA.ne W9.1
          have to : tp ≠ o := NA.ne W9.2
          have WB := WA.upd UB (by simpa using qo) (by simpa using to)
          have AB := AA.upd UB (by simpa using lo) (by simpa using ao)
          have EA := E9.trans NA.2.2.1
          have EB := UB.ext0 EA (by simpa using E9.old NA.1)
          have UAB : Upd h9 hB [] := ⟨Nat.le_trans NA.2.2.1.1 UB.1, fun x d e _ => UB.2 _ _ (NA.2.2.1.2 _ _ e) (by simpa using NA.ne e)⟩
          have SB : isLs hB T b (i + 1) tp f := S9.upd UAB (fun x hx => by cases hx) (fun x e => by rw [W9.2] at e; cases e)
          have tqt : tq ≠ tp := fun z => by rw [z, WA.2] at tq0; cases tq0
          have lB := AB.1
          refine kx_F C rfl mf_X1_50 dX1_looks_63 ((c_push (h0 := h) AB (by omega) SB.el LB.1 rfl (Ne.symm lo) (Ne.symm ao) EB N1.1 (fun _ ↦ h6))) (by assumption) rfl rfl (Nat.le_of_ble_eq_true rfl) ⟨(Nat.le_of_ble_eq_true rfl), (Nat.le_of_ble_eq_true rfl)⟩ (by omega) (fun v hC hp_ => ?_) (fun _ _ hx => hx.elim)
          obtain ⟨rfl, ar', g', AC, g1', g2', EC, a0', UC⟩ := hp_
          have cB := AB.2.1
          have SC : isLs hC T b (i + 1) tp f := SB.upd UC (fun x hx => by
            have hx' : x = l ∨ x = ar := by simpa using hx
            rcases hx' with z | z
            · exact Or.inr (Or.inr ⟨_, by rw [z]; exact lB, fun x e => (by cases e), fun x y e => (by cases e)⟩)
            · exact Or.inr (Or.inr ⟨_, by rw [z]; exact cB, fun x e => (by cases e), fun x y e => (by cases e)⟩)) (fun x e => by rw [WB.2] at e; cases e)
          have LC := LB.upd UC (by simp [Ne.symm lo, Ne.symm ao]) (by simp [ne_cel LB.2 lB ne_oa, ne_cel LB.2 cB (ne_knd (by decide))])
          have WC := WB.upd UC (by simp [Ne.symm lq, Ne.symm aq]) (by simp [Ne.symm lt, Ne.symm at'])
          refine k_pop C dX1_looks_68 rfl ?_
          refine k_goto C dX1_looks_69 (tgt := 33) (by decide) ?_
          refine ih (i + 1) ar' _ _ hC g' (by omega) ?_ ?_ n9 AC (fun k hk => ?_) WC EC a0'
          · rw [show i + 1 + 1 = i + 2 by omega]; omega
          · rw [show i + 1 + 1 = i + 2 by omega]; omega
          · by_cases hki : k = i + 1
            · subst hki
              exact ⟨o, tq, g2', LC, tqt⟩
            · obtain ⟨o1, t1, e1, e2⟩ := SC k (by omega)
              exact ⟨o1, t1, by rw [g1' k (by omega) (by omega)]; exact e1, e2⟩
  have ls7 : isLs h7 T b 1 tp g := fun k hk => by
    have hk' : k = 0 := by omega
    subst hk'
    exact ⟨o, tq, g2, L7, tqt⟩
  exact (loop b 0 ar _ _ h7 g (by omega) rfl rfl rfl A7 ls7 W7 E7 ar0').widen (by omega) (by omega)
