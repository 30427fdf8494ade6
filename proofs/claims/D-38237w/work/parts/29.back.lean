/-! ===== lists of rows ===== -/
set_option maxRecDepth 100000
theorem len1 {α : Type} {l : List α} {x : α} : (l ++ [x]).length = l.length + 1 := by rw [List.length_append]; rfl
def endRow (T : Tb) (k : Nat) : Option Rw := if endsB T k then some ((k : Int) / 2, 0, up (fun _ => -1) 0 ((k : Int) % 2)) else none
def cellRow (T : Tb) (r : Rw) (k : Nat) : Option Rw := match T.2 (k : Int) with
  | none => none
  | some ru => stepR r k ru
/-- what f has for d numbers from k on, behind acc -/
def colK (f : Nat → Option Rw) : Nat → Nat → List Rw → List Rw
  | 0, _, acc => acc
  | d + 1, k, acc => match f k with
    | none => colK f d (k + 1) acc
    | some r => colK f d (k + 1) (acc ++ [r])
theorem colK_none {f : Nat → Option Rw} {d k : Nat} {acc : List Rw} (h : f k = none) : colK f (d + 1) k acc = colK f d (k + 1) acc := by rw [colK, h]
theorem colK_some {f : Nat → Option Rw} {d k : Nat} {acc : List Rw} {r : Rw} (h : f k = some r) : colK f (d + 1) k acc = colK f d (k + 1) (acc ++ [r]) := by rw [colK, h]
theorem colK_b {f : Nat → Option Rw} : ∀ (d k : Nat) (acc : List Rw), acc.length ≤ (colK f d k acc).length ∧ (colK f d k acc).length ≤ acc.length + d
  | 0, k, acc => ⟨Nat.le_refl _, Nat.le_refl _⟩
  | d + 1, k, acc => by
    cases h : f k with
    | none =>
      rw [colK_none h]
      have := colK_b (f := f) d (k + 1) acc
      omega
    | some r =>
      rw [colK_some h]
      have := colK_b (f := f) d (k + 1) (acc ++ [r])
      rw [List.length_append] at this
      simp only [List.length_cons, List.length_nil] at this
      omega
theorem colK_all {f : Nat → Option Rw} {P : Rw → Prop} : ∀ (d k : Nat) (acc : List Rw), (∀ j r, k ≤ j → j < k + d → f j = some r → P r) → (∀ r ∈ acc, P r) → ∀ r ∈ colK f d k acc, P r
  | 0, k, acc, _, h => h
  | d + 1, k, acc, h1, h2 => by
    cases h : f k with
    | none => rw [colK_none h]; exact colK_all d (k + 1) acc (fun j r j0 j1 => h1 j r (by omega) (by omega)) h2
    | some r =>
      rw [colK_some h]
      refine colK_all d (k + 1) _ (fun j r j0 j1 => h1 j r (by omega) (by omega)) (fun x hx => ?_)
      rcases List.mem_append.mp hx with z | z
      · exact h2 x z
      · rw [show x = r by simpa using z]
        exact h1 k r (by omega) (by omega) h
def rowsEnds (T : Tb) : List Rw := colK (endRow T) (2 * T.1) 0 []
def ahR (T : Tb) : List Rw → List Rw → List Rw
  | [], acc => acc
  | r :: rs, acc => ahR T rs (colK (cellRow T r) (2 * T.1) 0 acc)
theorem ahR_b {T : Tb} : ∀ (rs acc : List Rw), acc.length ≤ (ahR T rs acc).length ∧ (ahR T rs acc).length ≤ acc.length + rs.length * (2 * T.1)
  | [], acc => ⟨Nat.le_refl _, by simp [ahR]⟩
  | r :: rs, acc => by
    have h1 := colK_b (f := cellRow T r) (2 * T.1) 0 acc
    have h2 := ahR_b (T := T) rs (colK (cellRow T r) (2 * T.1) 0 acc)
    unfold ahR
    rw [List.length_cons, show (rs.length + 1) * (2 * T.1) = rs.length * (2 * T.1) + 2 * T.1 from Nat.succ_mul _ _]
    omega
theorem endRow_ok {T : Tb} {k : Nat} {r : Rw} (hk : k < 2 * T.1) (h : endRow T k = some r) : RwOk T 0 r := by
  unfold endRow at h
  split at h
  · have e := Option.some.inj h
    subst e
    refine ⟨by dsimp only; omega, by dsimp only; omega, fun j => ?_⟩
    unfold up
    dsimp only
    split <;> omega
  · cases h
theorem cellRow_ok {T : Tb} (hT : TbOk T) {d k : Nat} {r r' : Rw} (hr : RwOk T d r) (hk : k < 2 * T.1) (h : cellRow T r k = some r') : RwOk T (d + 1) r' := by
  unfold cellRow at h
  cases hc : T.2 (k : Int) with
  | none => rw [hc] at h; cases h
  | some ru =>
    rw [hc] at h
    exact stepR_ok hr (by omega) (hT.2.2 _ _ (by omega) (by omega) hc) h
theorem rowsEnds_ok {T : Tb} : ∀ r ∈ rowsEnds T, RwOk T 0 r := colK_all _ _ _ (fun j r _ h1 h2 => endRow_ok (by omega) h2) (fun r hr => by cases hr)
theorem ahR_ok {T : Tb} (hT : TbOk T) {d : Nat} : ∀ (rs acc : List Rw), (∀ r ∈ rs, RwOk T d r) → (∀ r ∈ acc, RwOk T (d + 1) r) → ∀ r ∈ ahR T rs acc, RwOk T (d + 1) r
  | [], acc, _, h => h
  | r :: rs, acc, h1, h2 => ahR_ok hT rs _ (fun x hx => h1 x (List.mem_cons_of_mem _ hx)) (colK_all _ _ _ (fun j x _ h3 h4 => cellRow_ok hT (h1 r List.mem_cons_self) (by omega) h4) h2)
theorem RwOk.le {T : Tb} {d e : Nat} {r : Rw} (h : d ≤ e) (H : RwOk T d r) : RwOk T e r := by
  obtain ⟨h1, h2, h3⟩ := H
  exact ⟨h1, by omega, h3⟩
/-- a list's rows -/
def isRws (h : Hp) (acc : List Rw) (f : Int → Option Nat) : Prop := ∀ (k : Nat) (r : Rw), acc[k]? = some r → ∃ o q, f k = some o ∧ isRw h o q r
theorem isRws.ext {h h' : Hp} {acc : List Rw} {f : Int → Option Nat} (E : Ext h h') (H : isRws h acc f) : isRws h' acc f := fun k r e => by
  obtain ⟨o, q, e1, e2⟩ := H k r e
  exact ⟨o, q, e1, e2.ext E⟩
theorem isRws.el {h : Hp} {acc : List Rw} {f : Int → Option Nat} (H : isRws h acc f) : isEl h acc.length f := fun j h0 h1 => by
  obtain ⟨o, q, e1, e2⟩ := H j.toNat _ (List.getElem?_eq_getElem (by omega))
  rw [show ((j.toNat : Nat) : Int) = j by omega] at e1
  exact ⟨o, _, e1, e2.1, rfl⟩
theorem isRws.upd {h h' : Hp} {acc : List Rw} {f : Int → Option Nat} {S : List Nat} (U : Upd h h' S) (hS : ∀ x ∈ S, h.2 x = none ∨ ∃ d : Cel, h.2 x = some d ∧ (∀ y : List Value, d ≠ .inl (11, y)) ∧ (∀ (n : Nat) (y : Nat → Value), d ≠ .inr (0, n, y))) (H : isRws h acc f) : isRws h' acc f := fun k r e => by
  obtain ⟨o, q, e1, e2⟩ := H k r e
  refine ⟨o, q, e1, e2.upd U (fun z => ?_) (fun z => ?_)⟩
  · rcases hS o z with y | ⟨d, y1, y2, y3⟩
    · rw [e2.1] at y; cases y
    · rw [e2.1] at y1; exact y2 _ (Option.some.inj y1).symm
  · obtain ⟨-, g, e3, -⟩ := e2
    rcases hS q z with y | ⟨d, y1, y2, y3⟩
    · rw [e3] at y; cases y
    · rw [e3] at y1; exact y3 _ _ (Option.some.inj y1).symm
theorem isRws.push {h : Hp} {acc : List Rw} {f g : Int → Option Nat} {o q : Nat} {r : Rw} (H : isRws h acc f) (h1 : ∀ i : Int, 0 ≤ i → i < acc.length → g i = f i) (h2 : g acc.length = some o) (h3 : isRw h o q r) : isRws h (acc ++ [r]) g := fun k x e => by
  by_cases hk : k < acc.length
  · rw [List.getElem?_append_left hk] at e
    obtain ⟨o1, q1, e1, e2⟩ := H k x e
    exact ⟨o1, q1, by rw [h1 k (by omega) (by omega)]; exact e1, e2⟩
  · have hk2 : k = acc.length := by
      have := (List.getElem?_eq_some_iff.mp e).1
      rw [List.length_append] at this
      simp only [List.length_cons, List.length_nil] at this
      omega
    subst hk2
    rw [List.getElem?_append_right (Nat.le_refl _), Nat.sub_self] at e
    have : r = x := by simpa using e
    subst this
    exact ⟨o, q, h2, h3⟩
theorem c_ends {w : Wd} {h : Hp} {t lst ar0 : Nat} {T : Tb} (G : isTb w h t lst ar0 T) (hT : TbOk T) : Ct w yX1_ends (ws_ yX1_ends cX1_ends 4 (some (FieldType.object "java/util/List"))) 8 211 18 157 [.ref t] h (fun v h' => ∃ l ar f, v = some (.ref l) ∧ isAL w h' l ar (rowsEnds T).length (capOf (rowsEnds T).length) f ∧ isRws h' (rowsEnds T) f ∧ Ext h h') NoX := by
  have hT2 := hT.2.1
  refine Ct.of (by decide) [some (.ref t), none, none, none] rfl (Nat.le_of_ble_eq_true rfl) (fun K C E N0 => ?_)
  refine k_new C nw_X1_46 dX1_ends_0 (by omega) (fun l h1 N1 => ?_)
  have l1 := N1.2.1
  refine k_dup C dX1_ends_3 rfl ?_
  refine kx_I C rfl mi_X1_48 dX1_ends_4 ((c_alInit l1)) rfl rfl (Nat.le_of_ble_eq_true rfl) ⟨(Nat.le_of_ble_eq_true rfl), (Nat.le_of_ble_eq_true rfl)⟩ (by omega) (fun v h2 hp_ => ?_) (fun _ _ hx => hx.elim)
  obtain ⟨rfl, P2⟩ := hp_
  have l2 := P2.2.1
  have E2 : Ext h h2 := P2.upd.ext0 N1.2.2.1 (by simpa using N1.1)
  refine k_astore_n C dX1_ends_7 (Nat.le_of_ble_eq_true rfl) rfl ?_
  refine k_iconst C dX1_ends_8 ?_
  refine k_istore_n C dX1_ends_9 (Nat.le_of_ble_eq_true rfl) rfl ?_
  have p8 : payC 8 = 1 ∧ payS 8 = 10 := by decide
  have loop : ∀ (d i ar n k : Nat) (hh : Hp) (f : Int → Option Nat) (acc : List Rw) (x3 : Option Value), i + d = 2 * T.1 → acc.length ≤ i → n = 1 + 2 * acc.length + payC acc.length → k = 3 + 18 * acc.length + payS acc.length → isAL w hh l ar acc.length (capOf acc.length) f → isRws hh acc f → Ext h hh → (0 < acc.length → h.2 ar = none) → colK (endRow T) d i acc = rowsEnds T → Wk w K hh n k 10 [some (.ref t), some (.ref l), some (jI (i : Nat)), x3] [] := by
    intro d
    induction d with
    | zero =>
      intro i ar n k hh f acc x3 hi ha hn hk h1 h2 h3 h4 h5
      have pc := payC_le (show acc.length ≤ 8 by omega)
      have ps := payS_le (show acc.length ≤ 8 by omega)
      have G1 := (G.ext h3).1
      have e : acc = rowsEnds T := h5
      subst e
      refine k_iload_n C dX1_ends_10 rfl ?_
      refine k_iconst C dX1_ends_11 ?_
      refine k_aload_n C dX1_ends_12 rfl ?_
      refine k_getN C fn_X1_73 dX1_ends_13 (by assumption) (by rfl) ?_
      refine k_imul C dX1_ends_16 ?_
      refine k_icmp_ge C dX1_ends_17 (tgt := 71) (by decide) (by omega) (fun g1 => ?_) (fun g2 => ?_)
      · refine k_aload_n C dX1_ends_71 rfl ?_
        exact k_aret C (Or.inl ⟨_, rfl⟩) E dX1_ends_72 (by omega) ⟨l, ar, f, rfl, h1, h2, h3⟩
      · omega
    | succ d ih =>
      intro i ar n k hh f acc x3 hi ha hn hk h1 h2 h3 h4 h5
      have pc := payC_le (show acc.length + 1 ≤ 8 by omega)
      have ps := payS_le (show acc.length + 1 ≤ 8 by omega)
      have pc1 : payC (acc.length + 1) = payC acc.length + gcC acc.length (capOf acc.length) := rfl
      have ps1 : payS (acc.length + 1) = payS acc.length + gcS acc.length (capOf acc.length) := rfl
      have G' := G.ext h3
      have G1 := G'.1
      refine k_iload_n C dX1_ends_10 rfl ?_
      refine k_iconst C dX1_ends_11 ?_
      refine k_aload_n C dX1_ends_12 rfl ?_
      refine k_getN C fn_X1_73 dX1_ends_13 (by assumption) (by rfl) ?_
      refine k_imul C dX1_ends_16 ?_
      refine k_icmp_ge C dX1_ends_17 (tgt := 71) (by decide) (by omega) (fun g1 => ?_) (fun g2 => ?_)
      · omega
      · refine k_aload_n C dX1_ends_20 rfl ?_
        refine k_iload_n C dX1_ends_21 rfl ?_
        refine k_iconst C dX1_ends_22 ?_
        refine k_idiv C dX1_ends_23 (by omega) ?_
        refine k_iload_n C dX1_ends_24 rfl ?_
        refine k_iconst C dX1_ends_25 ?_
        refine k_irem C dX1_ends_26 (by omega) ?_
        refine kx_V C rfl mv_X1_78 dX1_ends_27 ((c_endsAt G' hT (by omega) (by omega))) (by assumption) rfl rfl (Nat.le_of_ble_eq_true rfl) ⟨(Nat.le_of_ble_eq_true rfl), (Nat.le_of_ble_eq_true rfl)⟩ (by omega) (fun v kk hp_ => ?_) (fun _ _ hx => hx.elim)
        obtain ⟨rfl, rfl⟩ := hp_
        rw [show 2 * ((i : Int) / 2) + (i : Int) % 2 = i by omega]
        refine k_ifeq_b C dX1_ends_30 (tgt := 65) (by decide) (fun g3 => ?_) (fun g4 => ?_)
        · refine k_iinc C dX1_ends_65 rfl rfl ?_
          refine k_goto C dX1_ends_68 (tgt := 10) (by decide) ?_
          rw [colK_none (by unfold endRow; rw [g3]; rfl)] at h5
          exact ih (i + 1) ar n k kk f acc x3 (by omega) (by omega) hn hk h1 h2 h3 h4 h5
        · rw [colK_some (r := ((i : Int) / 2, 0, up (fun _ => -1) 0 ((i : Int) % 2))) (by unfold endRow; rw [g4]; rfl)] at h5
          refine k_new C nw_X1_82 dX1_ends_33 (by omega) (fun o hA NA => ?_)
          have oA := NA.2.1
          refine k_dup C dX1_ends_36 rfl ?_
          refine k_iload_n C dX1_ends_37 rfl ?_
          refine k_iconst C dX1_ends_38 ?_
          refine k_idiv C dX1_ends_39 (by omega) ?_
          refine k_iconst C dX1_ends_40 ?_
          refine kx_I C rfl mi_X1_84 dX1_ends_41 ((c_rwInit oA)) rfl rfl (Nat.le_of_ble_eq_true rfl) ⟨(Nat.le_of_ble_eq_true rfl), (Nat.le_of_ble_eq_true rfl)⟩ (by omega) (fun v hB hp_ => ?_) (fun _ _ hx => hx.elim)
          obtain ⟨rfl, q, q0, RB, UB⟩ := hp_
          obtain ⟨OB, gB, QB, VB⟩ := RB
          have EB : Ext kk hB := UB.ext0 NA.2.2.1 (by simpa using NA.1)
          refine k_astore_n C dX1_ends_44 (Nat.le_of_ble_eq_true rfl) rfl ?_
          refine k_aload_n C dX1_ends_45 rfl ?_
          refine k_getN C fn_X1_87 dX1_ends_46 (by assumption) (by rfl) ?_
          refine k_iconst C dX1_ends_49 ?_
          refine kx_SN C rfl msn_X1_91 dX1_ends_50 (c_rwAt) rfl rfl (Nat.le_of_ble_eq_true rfl) ⟨(Nat.le_of_ble_eq_true rfl), (Nat.le_of_ble_eq_true rfl)⟩ (by omega) (fun v kk2 hp_ => ?_) (fun _ _ hx => hx.elim)
          obtain ⟨rfl, rfl⟩ := hp_
          refine k_iload_n C dX1_ends_53 rfl ?_
          refine k_iconst C dX1_ends_54 ?_
          refine k_irem C dX1_ends_55 (by omega) ?_
          refine k_iast C dX1_ends_56 (by assumption) (by omega) (fun hC PC => ?_)
          have qk : kk.2 q = none := NA.2.2.1.old q0
          have EC : Ext kk hC := PC.upd.ext0 EB (by simpa using qk)
          have OC := PC.2.2 _ _ OB (ne_cel OB QB ne_ao)
          have RC : isRw hC o q ((i : Int) / 2, 0, up (fun _ => -1) 0 ((i : Int) % 2)) := ⟨OC, _, PC.2.1, fun j j0 j1 => by
            dsimp only
            by_cases hj : j = 0
            · rw [hj, up_at, up_at]
            · rw [up_ne hj, up_ne (by omega)]; exact VB j j0 j1⟩
          have AC := h1.ext EC
          have SC := h2.ext EC
          have lC := AC.1
          have ol : o ≠ l := Ne.symm (NA.ne h1.1)
          have oa : o ≠ ar := ne_cel OC AC.2.1 ne_ao
          have E0 := h3.trans EC
          refine k_aload_n C dX1_ends_57 rfl ?_
          refine k_aload_n C dX1_ends_58 rfl ?_
          refine kx_F C rfl mf_X1_50 dX1_ends_59 ((c_push (h0 := h) AC (by omega) SC.el OC rfl ol oa E0 N1.1 h4)) (by assumption) rfl rfl (Nat.le_of_ble_eq_true rfl) ⟨(Nat.le_of_ble_eq_true rfl), (Nat.le_of_ble_eq_true rfl)⟩ (by omega) (fun v hD hp_ => ?_) (fun _ _ hx => hx.elim)
          obtain ⟨rfl, ar', g', AD, g1', g2', ED, a0', UD⟩ := hp_
          have cC := AC.2.1
          have SD := SC.upd UD (fun x hx => by
            have hx' : x = l ∨ x = ar := by simpa using hx
            rcases hx' with z | z
            · exact Or.inr ⟨_, by rw [z]; exact lC, fun y e => (by cases e), fun n y e => (by cases e)⟩
            · exact Or.inr ⟨_, by rw [z]; exact cC, fun y e => (by cases e), fun n y e => (by cases e)⟩)
          have RD := RC.upd UD (by simp [ol, oa]) (by simp [ne_cel PC.2.1 lC ne_oa, ne_cel PC.2.1 cC (ne_knd (by decide))])
          refine k_pop C dX1_ends_64 rfl ?_
          refine k_iinc C dX1_ends_65 rfl rfl ?_
          refine k_goto C dX1_ends_68 (tgt := 10) (by decide) ?_
          refine ih (i + 1) ar' _ _ hD g' (acc ++ [_]) _ (by omega) (by rw [len1]; omega) ?_ ?_ (by rw [len1]; exact AD) (SD.push g1' g2' RD) ED (fun _ => a0') h5
          · rw [len1]; omega
          · rw [len1]; omega
  refine Wk.wf fun _ _ _ hc => ?_
  exact loop (2 * T.1) 0 (w.ad 5) _ _ h2 (fun _ => none) [] _ (by omega) (Nat.le_refl _) rfl rfl ⟨l2, hc.2.2.2.2.2.1, Nat.le_refl _, by decide, fun _ => rfl⟩ (fun k r e => by simp at e) E2 (fun z => absurd z (by decide)) rfl
theorem Lle.so {x : Value} {a b : List (Option Value)} (h : Lle a b) : Lle (some x :: a) (some x :: b) := ⟨rfl, h⟩
theorem Lle.no {y : Option Value} {a b : List (Option Value)} (h : Lle a b) : Lle (Option.none :: a) (y :: b) := h
theorem drop_cons {α : Type} {l : List α} {r : Nat} {x : α} {xs : List α} (h : l.drop r = x :: xs) : l[r]? = some x ∧ l.drop (r + 1) = xs ∧ r < l.length := by
  have h1 : (l.drop r)[0]? = some x := by rw [h]; rfl
  rw [List.getElem?_drop, Nat.add_zero] at h1
  refine ⟨h1, ?_, (List.getElem?_eq_some_iff.mp h1).1⟩
  have h2 : (l.drop r).drop 1 = xs := by rw [h]; rfl
  rw [List.drop_drop] at h2
  exact h2
theorem drop_nil {α : Type} {l : List α} {r : Nat} (h : l.drop r = []) : l.length ≤ r := by
  have := congrArg List.length h
  rw [List.length_drop] at this
  simp only [List.length_nil] at this
  omega
/-- the room of the rows ahead, m of them -/
def ahC (m : Nat) : Nat := 1 + 3 * m + payC m
def ahS (m : Nat) : Nat := 3 + 19 * m + payS m
theorem c_ahead {w : Wd} {h : Hp} {t lst ar0 l0 ar1 : Nat} {T : Tb} {rows : List Rw} {f0 : Int → Option Nat} {cap0 : Nat} (G : isTb w h t lst ar0 T) (hT : TbOk T) (A : isAL w h l0 ar1 rows.length cap0 f0) (R : isRws h rows f0) (hl : rows.length ≤ 24) (hr : ∀ r ∈ rows, RwOk T 5 r) : Ct w yX1_ahead (ws_ yX1_ahead cX1_ahead 7 (some (FieldType.object "java/util/List"))) 8 211 (ahC (ahR T rows []).length) (ahS (ahR T rows []).length) [.ref t, .ref l0] h (fun v h' => ∃ l ar f, v = some (.ref l) ∧ isAL w h' l ar (ahR T rows []).length (capOf (ahR T rows []).length) f ∧ isRws h' (ahR T rows []) f ∧ Ext h h') NoX := by
  have hT2 := hT.2.1
  have hbig := (ahR_b (T := T) rows []).2
  have hbig2 : rows.length * (2 * T.1) ≤ 24 * 8 := Nat.mul_le_mul hl (by omega)
  have hle0 : ([] : List Rw).length = 0 := rfl
  generalize hres : ahR T rows [] = res at *
  have hC : ahC res.length = 1 + 3 * res.length + payC res.length := rfl
  have hS : ahS res.length = 3 + 19 * res.length + payS res.length := rfl
  refine Ct.of (by decide) [some (.ref t), some (.ref l0), none, none, none, none, none] rfl (Nat.le_of_ble_eq_true rfl) (fun K C E N0 => ?_)
  refine k_new C nw_X1_46 dX1_ahead_0 (by omega) (fun l h1 N1 => ?_)
  have l1 := N1.2.1
  refine k_dup C dX1_ahead_3 rfl ?_
  refine kx_I C rfl mi_X1_48 dX1_ahead_4 ((c_alInit l1)) rfl rfl (Nat.le_of_ble_eq_true rfl) ⟨(Nat.le_of_ble_eq_true rfl), (Nat.le_of_ble_eq_true rfl)⟩ (by omega) (fun v h2 hp_ => ?_) (fun _ _ hx => hx.elim)
  obtain ⟨rfl, P2⟩ := hp_
  have l2 := P2.2.1
  have E2 : Ext h h2 := P2.upd.ext0 N1.2.2.1 (by simpa using N1.1)
  refine k_astore_n C dX1_ahead_7 (Nat.le_of_ble_eq_true rfl) rfl ?_
  refine k_iconst C dX1_ahead_8 ?_
  refine k_istore_n C dX1_ahead_9 (Nat.le_of_ble_eq_true rfl) rfl ?_
  have outer : ∀ (rs : List Rw) (r ar n k : Nat) (hh : Hp) (f : Int → Option Nat) (acc : List Rw) , rows.drop r = rs → n = 1 + 3 * acc.length + payC acc.length → k = 3 + 19 * acc.length + payS acc.length → isAL w hh l ar acc.length (capOf acc.length) f → isRws hh acc f → Ext h hh → (0 < acc.length → h.2 ar = none) → ahR T rs acc = res → r ≤ rows.length → Wk w K hh n k 10 [some (.ref t), some (.ref l0), some (.ref l), some (jI (r : Nat)), none, none, none] [] := by
    intro rs
    induction rs with
    | nil =>
      intro r ar n k hh f acc hd hn hk h1 h2 h3 h4 h5 h6
      have hr' := drop_nil hd
      have A' := A.ext h3
      have A1 := A'.1
      have e : acc = res := h5
      subst e
      refine k_iload_n C dX1_ahead_10 rfl ?_
      refine k_aload_n C dX1_ahead_11 rfl ?_
      refine kx_F C rfl mf_X1_56 dX1_ahead_12 ((c_size A1)) (by assumption) rfl rfl (Nat.le_of_ble_eq_true rfl) ⟨(Nat.le_of_ble_eq_true rfl), (Nat.le_of_ble_eq_true rfl)⟩ (by omega) (fun v kk hp_ => ?_) (fun _ _ hx => hx.elim)
      obtain ⟨rfl, rfl⟩ := hp_
      refine k_icmp_ge C dX1_ahead_17 (tgt := 128) (by decide) (by omega) (fun g1 => ?_) (fun g2 => ?_)
      · refine k_aload_n C dX1_ahead_128 rfl ?_
        exact k_aret C (Or.inl ⟨_, rfl⟩) E dX1_ahead_129 (by omega) ⟨l, ar, f, rfl, h1, h2, h3⟩
      · omega
    | cons row rs ih =>
      intro r ar n k hh f acc hd hn hk h1 h2 h3 h4 h5 h6
      obtain ⟨hrow, hd2, hlt⟩ := drop_cons hd
      have A' := A.ext h3
      have A1 := A'.1
      have hok := hr row (List.mem_of_getElem? hrow)
      obtain ⟨or, qr, fr, Rr⟩ := R r row hrow
      have la := (ahR_b (T := T) (row :: rs) acc).1
      rw [h5] at la
      have pc := payC_le la
      have ps := payS_le la
      refine k_iload_n C dX1_ahead_10 rfl ?_
      refine k_aload_n C dX1_ahead_11 rfl ?_
      refine kx_F C rfl mf_X1_56 dX1_ahead_12 ((c_size A1)) (by assumption) rfl rfl (Nat.le_of_ble_eq_true rfl) ⟨(Nat.le_of_ble_eq_true rfl), (Nat.le_of_ble_eq_true rfl)⟩ (by omega) (fun v kk hp_ => ?_) (fun _ _ hx => hx.elim)
      obtain ⟨rfl, rfl⟩ := hp_
      refine k_icmp_ge C dX1_ahead_17 (tgt := 128) (by decide) (by omega) (fun g1 => ?_) (fun g2 => ?_)
      · omega
      · have inner : ∀ (d i ar n k : Nat) (hh : Hp) (f : Int → Option Nat) (acc : List Rw), i + d = 2 * T.1 → n = 1 + 3 * acc.length + payC acc.length → k = 3 + 19 * acc.length + payS acc.length → isAL w hh l ar acc.length (capOf acc.length) f → isRws hh acc f → Ext h hh → (0 < acc.length → h.2 ar = none) → ahR T rs (colK (cellRow T row) d i acc) = res → Wk w K hh n k 23 [some (.ref t), some (.ref l0), some (.ref l), some (jI (r : Nat)), some (jI (i : Nat)), none, none] [] := by
          intro d
          induction d with
          | zero =>
            intro i ar n k hh f acc hi hn hk h1 h2 h3 h4 h5
            have G1 := (G.ext h3).1
            have la := (ahR_b (T := T) rs (colK (cellRow T row) 0 i acc)).1
            rw [h5] at la
            have la2 := (colK_b (f := cellRow T row) 0 i acc).1
            have pc := payC_le (Nat.le_trans la2 la)
            have ps := payS_le (Nat.le_trans la2 la)
            refine k_iload C dX1_ahead_23 rfl ?_
            refine k_iconst C dX1_ahead_25 ?_
            refine k_aload_n C dX1_ahead_26 rfl ?_
            refine k_getN C fn_X1_73 dX1_ahead_27 (by assumption) (by rfl) ?_
            refine k_imul C dX1_ahead_30 ?_
            refine k_icmp_ge C dX1_ahead_31 (tgt := 122) (by decide) (by omega) (fun g3 => ?_) (fun g4 => ?_)
            · refine k_iinc C dX1_ahead_122 rfl rfl ?_
              refine k_goto C dX1_ahead_125 (tgt := 10) (by decide) ?_
              exact Wk.sub (by repeat (first | exact trivial | apply Lle.so | apply Lle.no)) (ih (r + 1) ar n k hh f acc hd2 hn hk h1 h2 h3 h4 h5 (by omega))
            · omega
          | succ d ihd =>
            intro i ar n k hh f acc hi hn hk h1 h2 h3 h4 h5
            have G' := G.ext h3
            have G1 := G'.1
            have A' := A.ext h3
            have A1 := A'.1
            have Rr' := Rr.ext h3
            have Rr1 := Rr'.1
            refine Wk.wf fun _ _ _ hc => ?_
            have la := (ahR_b (T := T) rs (colK (cellRow T row) (d + 1) i acc)).1
            rw [h5] at la
            have la2 := (colK_b (f := cellRow T row) (d + 1) i acc).1
            have pc := payC_le (Nat.le_trans la2 la)
            have ps := payS_le (Nat.le_trans la2 la)
            have oe : isOp hh (w.ad 0) none := hc.1
            have oe1 : hh.2 (w.ad 0) = some (.inl (15, [.null])) := hc.1
            refine k_iload C dX1_ahead_23 rfl ?_
            refine k_iconst C dX1_ahead_25 ?_
            refine k_aload_n C dX1_ahead_26 rfl ?_
            refine k_getN C fn_X1_73 dX1_ahead_27 (by assumption) (by rfl) ?_
            refine k_imul C dX1_ahead_30 ?_
            refine k_icmp_ge C dX1_ahead_31 (tgt := 122) (by decide) (by omega) (fun g3 => ?_) (fun g4 => ?_)
            · omega
            · refine k_aload_n C dX1_ahead_34 rfl ?_
              refine k_iload C dX1_ahead_35 rfl ?_
              refine k_iconst C dX1_ahead_37 ?_
              refine k_idiv C dX1_ahead_38 (by omega) ?_
              refine k_iload C dX1_ahead_39 rfl ?_
              refine k_iconst C dX1_ahead_41 ?_
              refine k_irem C dX1_ahead_42 (by omega) ?_
              refine kx_V C rfl mv_X1_95 dX1_ahead_43 ((c_cell G' hT2 (by omega) (by omega))) (by assumption) rfl rfl (Nat.le_of_ble_eq_true rfl) ⟨(Nat.le_of_ble_eq_true rfl), (Nat.le_of_ble_eq_true rfl)⟩ (by omega) (fun v k1 hp_ => ?_) (fun _ _ hx => hx.elim)
              obtain ⟨oo, rfl, e2, rfl⟩ := hp_
              rw [show 2 * ((i : Int) / 2) + (i : Int) % 2 = i by omega] at e2
              obtain ⟨vo, e3⟩ := e2.cell
              refine k_astore C dX1_ahead_46 (Nat.le_of_ble_eq_true rfl) rfl ?_
              refine k_aload C dX1_ahead_48 rfl ?_
              refine kx_V C rfl mv_X1_99 dX1_ahead_50 ((c_orPresent e2)) (by assumption) rfl rfl (Nat.le_of_ble_eq_true rfl) ⟨(Nat.le_of_ble_eq_true rfl), (Nat.le_of_ble_eq_true rfl)⟩ (by omega) (fun v k1 hp_ => ?_) (fun _ _ hx => hx.elim)
              obtain ⟨rfl, rfl⟩ := hp_
              cases hce : T.2 (i : Int) with
              | none =>
                rw [hce] at e2
                have hcr : cellRow T row i = none := by unfold cellRow; rw [hce]
                rw [colK_none hcr] at h5
                refine k_ifeq_b C dX1_ahead_53 (tgt := 88) (by decide) (fun g5 => ?_) (fun g6 => ?_)
                · refine kx_S C rfl ms_X1_113 dX1_ahead_88 (c_opEmpty) rfl rfl (Nat.le_of_ble_eq_true rfl) ⟨(Nat.le_of_ble_eq_true rfl), (Nat.le_of_ble_eq_true rfl)⟩ (by omega) (fun v k1 hp_ => ?_) (fun _ _ hx => hx.elim)
                  obtain ⟨rfl, rfl⟩ := hp_
                  refine k_astore C dX1_ahead_91 (Nat.le_of_ble_eq_true rfl) rfl ?_
                  refine k_aload C dX1_ahead_93 rfl ?_
                  refine kx_V C rfl mv_X1_99 dX1_ahead_95 ((c_isPresent oe)) (by assumption) rfl rfl (Nat.le_of_ble_eq_true rfl) ⟨(Nat.le_of_ble_eq_true rfl), (Nat.le_of_ble_eq_true rfl)⟩ (by omega) (fun v k1 hp_ => ?_) (fun _ _ hx => hx.elim)
                  obtain ⟨rfl, rfl⟩ := hp_
                  refine k_ifeq_b C dX1_ahead_98 (tgt := 116) (by decide) (fun g7 => ?_) (fun g8 => ?_)
                  · refine k_iinc C dX1_ahead_116 rfl rfl ?_
                    refine k_goto C dX1_ahead_119 (tgt := 23) (by decide) ?_
                    exact Wk.sub (by repeat (first | exact trivial | apply Lle.so | apply Lle.no)) (ihd (i + 1) ar n k k1 f acc (by omega) hn hk h1 h2 h3 h4 h5)
                  · cases g8
                · cases g6
              | some ru =>
                rw [hce] at e2
                have hu := hT.2.2 _ _ (by omega) (by omega) hce
                refine k_ifeq_b C dX1_ahead_53 (tgt := 88) (by decide) (fun g5 => ?_) (fun g6 => ?_)
                · cases g5
                · refine k_aload_n C dX1_ahead_56 rfl ?_
                  refine k_iload_n C dX1_ahead_57 rfl ?_
                  refine kx_F C rfl mf_X1_60 dX1_ahead_58 ((c_get A' (by omega) fr)) (by assumption) rfl rfl (Nat.le_of_ble_eq_true rfl) ⟨(Nat.le_of_ble_eq_true rfl), (Nat.le_of_ble_eq_true rfl)⟩ (by omega) (fun v k1 hp_ => ?_) (fun _ _ hx => hx.elim)
                  obtain ⟨rfl, rfl⟩ := hp_
                  refine k_castO C ck_X1_82_11 dX1_ahead_63 (by assumption) ?_
                  refine k_iload C dX1_ahead_66 rfl ?_
                  refine k_iconst C dX1_ahead_68 ?_
                  refine k_idiv C dX1_ahead_69 (by omega) ?_
                  refine k_iload C dX1_ahead_70 rfl ?_
                  refine k_iconst C dX1_ahead_72 ?_
                  refine k_irem C dX1_ahead_73 (by omega) ?_
                  refine k_aload C dX1_ahead_74 rfl ?_
                  refine kx_V C rfl mv_X1_104 dX1_ahead_76 ((c_orGet e2)) (by assumption) rfl rfl (Nat.le_of_ble_eq_true rfl) ⟨(Nat.le_of_ble_eq_true rfl), (Nat.le_of_ble_eq_true rfl)⟩ (by omega) (fun v k1 hp_ => ?_) (fun _ _ hx => hx.elim)
                  obtain ⟨a, rfl, e6, rfl⟩ := hp_
                  have e6' := e6
                  unfold isRu at e6'
                  refine k_castO C ck_X1_107_6 dX1_ahead_79 (by assumption) ?_
                  cases hst : stepR row (i : Int) ru with
                  | none =>
                    have hcr : cellRow T row i = none := by unfold cellRow; rw [hce]; exact hst
                    rw [colK_none hcr] at h5
                    refine kx_V C rfl mv_X1_109 dX1_ahead_82 ((c_rwAheadN hT Rr' (hok.le (by omega)) e6 hu hst)) (by assumption) rfl rfl (Nat.le_of_ble_eq_true rfl) ⟨(Nat.le_of_ble_eq_true rfl), (Nat.le_of_ble_eq_true rfl)⟩ (by omega) (fun v k1 hp_ => ?_) (fun _ _ hx => hx.elim)
                    obtain ⟨rfl, rfl⟩ := hp_
                    refine k_goto C dX1_ahead_85 (tgt := 91) (by decide) ?_
                    refine k_astore C dX1_ahead_91 (Nat.le_of_ble_eq_true rfl) rfl ?_
                    refine k_aload C dX1_ahead_93 rfl ?_
                    refine kx_V C rfl mv_X1_99 dX1_ahead_95 ((c_isPresent oe)) (by assumption) rfl rfl (Nat.le_of_ble_eq_true rfl) ⟨(Nat.le_of_ble_eq_true rfl), (Nat.le_of_ble_eq_true rfl)⟩ (by omega) (fun v k1 hp_ => ?_) (fun _ _ hx => hx.elim)
                    obtain ⟨rfl, rfl⟩ := hp_
                    refine k_ifeq_b C dX1_ahead_98 (tgt := 116) (by decide) (fun g7 => ?_) (fun g8 => ?_)
                    · refine k_iinc C dX1_ahead_116 rfl rfl ?_
                      refine k_goto C dX1_ahead_119 (tgt := 23) (by decide) ?_
                      exact Wk.sub (by repeat (first | exact trivial | apply Lle.so | apply Lle.no)) (ihd (i + 1) ar n k k1 f acc (by omega) hn hk h1 h2 h3 h4 h5)
                    · cases g8
                  | some r' =>
                    have hcr : cellRow T row i = some r' := by unfold cellRow; rw [hce]; exact hst
                    rw [colK_some hcr] at h5
                    have lb := (ahR_b (T := T) rs (colK (cellRow T row) d (i + 1) (acc ++ [r']))).1
                    rw [h5] at lb
                    have lb2 := (colK_b (f := cellRow T row) d (i + 1) (acc ++ [r'])).1
                    rw [len1] at lb2
                    have pc1 := payC_le (Nat.le_trans lb2 lb)
                    have ps1 := payS_le (Nat.le_trans lb2 lb)
                    have pc2 : payC (acc.length + 1) = payC acc.length + gcC acc.length (capOf acc.length) := rfl
                    have ps2 : payS (acc.length + 1) = payS acc.length + gcS acc.length (capOf acc.length) := rfl
                    refine kx_V C rfl mv_X1_109 dX1_ahead_82 ((c_rwAheadS hT Rr' (hok.le (by omega)) e6 hu hst)) (by assumption) rfl rfl (Nat.le_of_ble_eq_true rfl) ⟨(Nat.le_of_ble_eq_true rfl), (Nat.le_of_ble_eq_true rfl)⟩ (by omega) (fun v hB hp_ => ?_) (fun _ _ hx => hx.elim)
                    obtain ⟨p, o2, q2, rfl, OB, RB, EB, o20, q20⟩ := hp_
                    have OB' := OB
                    unfold isOp at OB'
                    have AB := h1.ext EB
                    have SB := h2.ext EB
                    have RB1 := RB.1
                    have lB := AB.1
                    refine k_goto C dX1_ahead_85 (tgt := 91) (by decide) ?_
                    refine k_astore C dX1_ahead_91 (Nat.le_of_ble_eq_true rfl) rfl ?_
                    refine k_aload C dX1_ahead_93 rfl ?_
                    refine kx_V C rfl mv_X1_99 dX1_ahead_95 ((c_isPresent OB)) (by assumption) rfl rfl (Nat.le_of_ble_eq_true rfl) ⟨(Nat.le_of_ble_eq_true rfl), (Nat.le_of_ble_eq_true rfl)⟩ (by omega) (fun v k2 hp_ => ?_) (fun _ _ hx => hx.elim)
                    obtain ⟨rfl, rfl⟩ := hp_
                    refine k_ifeq_b C dX1_ahead_98 (tgt := 116) (by decide) (fun g7 => ?_) (fun g8 => ?_)
                    · cases g7
                    · refine k_aload_n C dX1_ahead_101 rfl ?_
                      refine k_aload C dX1_ahead_102 rfl ?_
                      refine kx_V C rfl mv_X1_104 dX1_ahead_104 ((c_opGet OB)) (by assumption) rfl rfl (Nat.le_of_ble_eq_true rfl) ⟨(Nat.le_of_ble_eq_true rfl), (Nat.le_of_ble_eq_true rfl)⟩ (by omega) (fun v k2 hp_ => ?_) (fun _ _ hx => hx.elim)
                      obtain ⟨rfl, rfl⟩ := hp_
                      refine k_castO C ck_X1_82_11 dX1_ahead_107 (by assumption) ?_
                      have ol : o2 ≠ l := fun z => by rw [z, h1.1] at o20; cases o20
                      have oa : o2 ≠ ar := ne_cel RB1 AB.2.1 ne_ao
                      refine kx_F C rfl mf_X1_50 dX1_ahead_110 ((c_push (h0 := h) AB (by omega) SB.el RB1 rfl ol oa (h3.trans EB) N1.1 h4)) (by assumption) rfl rfl (Nat.le_of_ble_eq_true rfl) ⟨(Nat.le_of_ble_eq_true rfl), (Nat.le_of_ble_eq_true rfl)⟩ (by omega) (fun v hD hp_ => ?_) (fun _ _ hx => hx.elim)
                      obtain ⟨rfl, ar', g', AD, g1', g2', ED, a0', UD⟩ := hp_
                      have cB := AB.2.1
                      obtain ⟨-, gq, QB, -⟩ := id RB
                      have SD := SB.upd UD (fun x hx => by
                        have hx' : x = l ∨ x = ar := by simpa using hx
                        rcases hx' with z | z
                        · exact Or.inr ⟨_, by rw [z]; exact lB, fun y e => (by cases e), fun n y e => (by cases e)⟩
                        · exact Or.inr ⟨_, by rw [z]; exact cB, fun y e => (by cases e), fun n y e => (by cases e)⟩)
                      have RD := RB.upd UD (by simp [ol, oa]) (by simp [ne_cel QB lB ne_oa, ne_cel QB cB (ne_knd (by decide))])
                      refine k_pop C dX1_ahead_115 rfl ?_
                      refine k_iinc C dX1_ahead_116 rfl rfl ?_
                      refine k_goto C dX1_ahead_119 (tgt := 23) (by decide) ?_
                      exact Wk.sub (by repeat (first | exact trivial | apply Lle.so | apply Lle.no)) (ihd (i + 1) ar' _ _ hD g' (acc ++ [r']) (by omega) (by rw [len1]; omega) (by rw [len1]; omega) (by rw [len1]; exact AD) (SD.push g1' g2' RD) ED (fun _ => a0') h5)
        refine k_iconst C dX1_ahead_20 ?_
        refine k_istore C dX1_ahead_21 (Nat.le_of_ble_eq_true rfl) rfl ?_
        exact inner (2 * T.1) 0 ar n k kk f acc (by omega) hn hk h1 h2 h3 h4 h5
  refine Wk.wf fun _ _ _ hc => ?_
  exact outer rows 0 (w.ad 5) _ _ h2 (fun _ => none) [] rfl rfl rfl ⟨l2, hc.2.2.2.2.2.1, Nat.le_refl _, by decide, fun _ => rfl⟩ (fun k r e => by simp at e) E2 (fun z => absurd z (by decide)) hres (by omega)
