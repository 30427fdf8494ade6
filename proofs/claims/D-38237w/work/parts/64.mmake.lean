/-! ===== what changes the model: the frame; machine ===== -/
set_option maxRecDepth 100000
/-- cells that the model writes anew: lists, their arrays, its own object, machines, their cells -/
def wrM (c : Cel) : Prop := (∃ x, c = .inl (14, x)) ∨ (∃ n x, c = .inr (4, n, x)) ∨ (∃ x, c = .inl (2, x)) ∨ (∃ x, c = .inl (5, x)) ∨ (∃ n x, c = .inr (5, n, x))
def okS (h : Hp) (S : List Nat) : Prop := ∀ q ∈ S, h.2 q = none ∨ ∃ c : Cel, h.2 q = some c ∧ wrM c
theorem okS.keep0 {h h' : Hp} {S : List Nat} (U : Upd h h' S) (hS : okS h S) {q n : Nat} {f : Int → Int} (e : h.2 q = some (aI 0 n f)) : h'.2 q = some (aI 0 n f) := U.2 _ _ e (fun hq => by
  rcases hS q hq with z | ⟨c, z, ⟨x, y⟩ | ⟨n, x, y⟩ | ⟨x, y⟩ | ⟨x, y⟩ | ⟨n, x, y⟩⟩
  · rw [e] at z; cases z
  all_goals
    rw [e, y] at z
    cases z)
theorem isMd.keep {h h' : Hp} {a cs : Nat} {T : Tb} {kv av bv : Int} {S : List Nat} (U : Upd h h' S) (h0 : a ∉ S) (h1 : cs ∉ S) (hS : okS h S) (H : isMd h a cs T kv av bv) : isMd h' a cs T kv av bv := by
  obtain ⟨e1, f, e2, e3⟩ := H
  refine ⟨U.2 _ _ e1 h0, f, U.2 _ _ e2 h1, fun k k0 k1 => ?_⟩
  have e4 := e3 k k0 k1
  cases hr : T.2 k with
  | none => rw [hr] at e4; exact e4
  | some r =>
    rw [hr] at e4
    obtain ⟨p, g, z1, z2, z3⟩ := e4
    exact ⟨p, g, z1, okS.keep0 U hS z2, z3⟩
theorem isTw.keep {h h' : Hp} {a : Nat} {g : Tg} {S : List Nat} (U : Upd h h' S) (hS : okS h S) (H : isTw h a g) : isTw h' a g := by
  obtain ⟨f, e1, e2⟩ := H
  exact ⟨f, okS.keep0 U hS e1, e2⟩
def ownM (m : Nat) (L : ML) (n : Nat) (q : Nat) : Prop := q = m ∨ q = L.lm ∨ (0 < L.cm ∧ q = L.am) ∨ q = L.lt ∨ (0 < L.ct ∧ q = L.at) ∨ ∃ i, i < n ∧ (q = (L.A i).1 ∨ q = (L.A i).2)
def sepM (L : ML) (n k : Nat) : Prop := (L.cm = capOf n ∧ L.ct = capOf k) ∧ L.lm ≠ L.lt ∧ (0 < L.cm → 0 < L.ct → L.am ≠ L.at) ∧ ∀ i j, i < n → j < n → i ≠ j → (L.A i).1 ≠ (L.A j).1 ∧ (L.A i).2 ≠ (L.A j).2
def stepM (w : Wd) (h h' : Hp) (m : Nat) (L : ML) (σ σ' : Sg) (th : Int) (s : Int64) : Prop := ∃ L' : ML, isMo w h' m L' σ' th s ∧ sepM L' σ'.n σ'.k ∧ UpdP h h' (ownM m L σ.n) ∧ ∀ q, ownM m L' σ'.n q → ownM m L σ.n q ∨ h.2 q = none
/-- nothing but what is told was changed -/
theorem q_step {w : Wd} {h h' : Hp} {m : Nat} {L : ML} {σ : Sg} {th : Int} {s : Int64} (H : isMo w h' m L σ th s) (hsep : sepM L σ.n σ.k) (U : Upd h h' [m]) : stepM w h h' m L σ σ th s := ⟨L, H, hsep, U.updP (fun q hq => Or.inl (by simpa using hq)), fun _ hq => Or.inl hq⟩
theorem madd_step {w : Wd} {h hM h' : Hp} {m a cs q : Nat} {L : ML} {σ : Sg} {th : Int} {s : Int64} {mc : Mch} {g' : Int → Option Nat} (H : isMo w hM m L σ th s) (hsep : sepM L σ.n σ.k) (E0 : ∀ q c, h.2 q = some c → hM.2 q ≠ none) (Um : UpdP h hM (fun q => q = m)) (Mn : isMd hM a cs mc.1 (kindN mc) mc.2.2.1 mc.2.2.2) (a0 : h.2 a = none) (cs0 : h.2 cs = none) (ao : ∀ i, i < σ.n → a ≠ (L.A i).1) (co : ∀ i, i < σ.n → cs ≠ (L.A i).2) (al : a ≠ L.lm) (aam : cs ≠ L.am)
    (Ln : isAL w h' L.lm q (σ.n + 1) (ncp σ.n L.cm) g') (hg : ∀ i : Nat, i < σ.n → g' i = some (L.A i).1) (gn : g' (σ.n : Int) = some a) (U : (σ.n < L.cm ∧ q = L.am ∧ Upd hM h' [L.lm, L.am]) ∨ (σ.n = L.cm ∧ hM.2 q = none ∧ Upd hM h' [L.lm])) : stepM w h h' m L σ (addM σ mc) th s := by
  obtain ⟨⟨s1, s2⟩, s3, s4, s5⟩ := hsep
  obtain ⟨hm, ⟨f, A, F⟩, ⟨ft, At, Ft⟩, M, TG⟩ := id H
  have lmc := A.1
  have amc := A.2.1
  obtain ⟨S, hU, hS, hq⟩ : ∃ S, Upd hM h' S ∧ (∀ y ∈ S, y = L.lm ∨ (0 < L.cm ∧ y = L.am)) ∧ ((0 < L.cm ∧ q = L.am) ∨ hM.2 q = none) := by
    rcases U with ⟨u1, u2, u3⟩ | ⟨u1, u2, u3⟩
    · exact ⟨_, u3, fun y hy => by
        have hy' : y = L.lm ∨ y = L.am := by simpa using hy
        exact hy'.imp id (fun z => ⟨by omega, z⟩), Or.inl ⟨by omega, u2⟩⟩
    · exact ⟨_, u3, fun y hy => Or.inl (by simpa using hy), Or.inr u2⟩
  have hcls : okS hM S := fun y hy => by
    rcases hS y hy with z | ⟨-, z⟩
    · exact Or.inr ⟨_, by rw [z]; exact lmc, Or.inl ⟨_, rfl⟩⟩
    · exact Or.inr ⟨_, by rw [z]; exact amc, Or.inr (Or.inl ⟨_, _, rfl⟩)⟩
  have notin : ∀ (y : Nat) (d : Cel), hM.2 y = some d → (∀ v : List Value, d ≠ .inl (14, v)) → (∀ (n : Nat) (v : Nat → Value), d ≠ .inr (4, n, v)) → y ∉ S := fun y d e k1 k2 hy => by
    rcases hS y hy with z | ⟨-, z⟩
    · rw [z, lmc] at e; exact k1 _ (Option.some.inj e).symm
    · rw [z, amc] at e; exact k2 _ _ (Option.some.inj e).symm
  have ltS : L.lt ∉ S := fun hy => by
    rcases hS _ hy with z | ⟨-, z⟩
    · exact s3 z.symm
    · exact ne_cel At.1 amc ne_ao z
  have atS : L.at ∉ S := fun hy => by
    rcases hS _ hy with z | ⟨z0, z⟩
    · exact ne_cel At.2.1 lmc ne_oa z
    · by_cases hc : 0 < L.ct
      · exact s4 z0 hc z.symm
      · have e := At.2.1
        rw [z, amc] at e
        have e2 := (Prod.mk.inj (Prod.mk.inj (Sum.inr.inj (Option.some.inj e))).2).1
        omega
  have mdS : ∀ (a cs : Nat) (T : Tb) (kv av bv : Int), isMd hM a cs T kv av bv → isMd h' a cs T kv av bv := fun a cs T kv av bv Mi => by
    obtain ⟨e1, f1, e2, -⟩ := id Mi
    exact Mi.keep hU (notin _ _ e1 (fun v e => by cases e) (fun n v e => by cases e)) (notin _ _ e2 (fun v e => by cases e) (fun n v e => by cases e)) hcls
  refine ⟨((L.lm, q, ncp σ.n L.cm), L.2.1, upN L.A σ.n (a, cs), L.B), ⟨hU.2 _ _ hm (notin _ _ hm (fun v e => by cases e) (fun n v e => by cases e)), ⟨g', Ln, fun i hi => ?_⟩, ⟨ft, At.upd hU ltS atS, Ft⟩, fun i hi => ?_, fun i hi => (TG i hi).keep hU hcls⟩, ⟨⟨?_, s2⟩, s3, fun z0 z1 => ?_, fun i j hi hj hij => ?_⟩, ?_, fun y hy => ?_⟩
  · show g' (i : Int) = some (upN L.A σ.n (a, cs) i).1
    have hi' : i < σ.n + 1 := hi
    by_cases e : i = σ.n
    · subst e; rw [upN_at]; exact gn
    · rw [upN_ne e]; exact hg i (by omega)
  · show isMd h' (upN L.A σ.n (a, cs) i).1 (upN L.A σ.n (a, cs) i).2 (upN σ.ms σ.n mc i).1 (kindN (upN σ.ms σ.n mc i)) (upN σ.ms σ.n mc i).2.2.1 (upN σ.ms σ.n mc i).2.2.2
    have hi' : i < σ.n + 1 := hi
    by_cases e : i = σ.n
    · subst e; rw [upN_at, upN_at]; exact mdS _ _ _ _ _ _ Mn
    · rw [upN_ne e, upN_ne e]; exact mdS _ _ _ _ _ _ (M i (by omega))
  · show ncp σ.n L.cm = capOf (σ.n + 1)
    rw [s1]; rfl
  · show q ≠ L.at
    rcases hq with ⟨y0, y1⟩ | y1
    · rw [y1]; exact s4 y0 z1
    · exact ne_some y1 At.2.1
  · show (upN L.A σ.n (a, cs) i).1 ≠ (upN L.A σ.n (a, cs) j).1 ∧ (upN L.A σ.n (a, cs) i).2 ≠ (upN L.A σ.n (a, cs) j).2
    have hi' : i < σ.n + 1 := hi
    have hj' : j < σ.n + 1 := hj
    by_cases ei : i = σ.n
    · subst ei
      rw [upN_at, upN_ne (Ne.symm hij)]
      exact ⟨ao j (by omega), co j (by omega)⟩
    · by_cases ej : j = σ.n
      · subst ej
        rw [upN_at, upN_ne ei]
        exact ⟨(ao i (by omega)).symm, (co i (by omega)).symm⟩
      · rw [upN_ne ei, upN_ne ej]
        exact s5 i j (by omega) (by omega) hij
  · refine ⟨Nat.le_trans Um.1 hU.1, fun y d e hy => hU.2 _ _ (Um.2 _ _ e (fun z => hy (Or.inl z))) (fun hyS => ?_)⟩
    rcases hS y hyS with z | ⟨z0, z⟩
    · exact hy (Or.inr (Or.inl z))
    · exact hy (Or.inr (Or.inr (Or.inl ⟨z0, z⟩)))
  · have none_of : hM.2 y = none → h.2 y = none := fun z => by
      cases e : h.2 y with
      | none => rfl
      | some d => exact absurd z (E0 y d e)
    rcases hy with z | z | ⟨z0, z⟩ | z | z | ⟨i, hi, z⟩
    · exact Or.inl (Or.inl z)
    · exact Or.inl (Or.inr (Or.inl z))
    · rcases hq with ⟨y0, y1⟩ | y1
      · exact Or.inl (Or.inr (Or.inr (Or.inl ⟨y0, by rw [z]; exact y1⟩)))
      · exact Or.inr (none_of (by rw [z]; exact y1))
    · exact Or.inl (Or.inr (Or.inr (Or.inr (Or.inl z))))
    · exact Or.inl (Or.inr (Or.inr (Or.inr (Or.inr (Or.inl z)))))
    · have hi' : i < σ.n + 1 := hi
      by_cases e : i = σ.n
      · subst e
        have z' : y = (upN L.A σ.n (a, cs) σ.n).1 ∨ y = (upN L.A σ.n (a, cs) σ.n).2 := z
        rw [upN_at] at z'
        rcases z' with e | e <;> rw [e]
        · exact Or.inr a0
        · exact Or.inr cs0
      · have z' : y = (upN L.A σ.n (a, cs) i).1 ∨ y = (upN L.A σ.n (a, cs) i).2 := z
        rw [upN_ne e] at z'
        exact Or.inl (Or.inr (Or.inr (Or.inr (Or.inr (Or.inr ⟨i, by omega, z'⟩)))))
theorem c_mdInit {w : Wd} {h : Hp} {a S : Nat} (hS : S ≤ 4) (ha : h.2 a = some (.inl (5, [jI 0, .null, jI 0, jI 0, jI 0]))) : Ct w yX6_init (ws_ yX6_init cX6_init 2 none) 1 40 1 (2 * S) [.ref a, jI (S : Nat)] h (fun v h' => v = none ∧ ∃ cs, h.2 cs = none ∧ isMd h' a cs (S, fun _ => none) (-1) (-1) (-1) ∧ Upd h h' [a]) NoX := by
  refine Ct.of (by decide) [some (.ref a), some (jI (S : Nat))] rfl (Nat.le_of_ble_eq_true rfl) (fun K C E N0 => ?_)
  refine k_aload_n C dX6_init_0 rfl ?_
  refine k_objinit C rfl q1281 q72 qobj dX6_init_1 ⟨(Nat.le_of_ble_eq_true rfl), (Nat.le_of_ble_eq_true rfl)⟩ ?_
  refine k_aload_n C dX6_init_4 rfl ?_
  refine k_iconst C dX6_init_5 ?_
  refine k_put C fg_X6_9 ft_5_2 dX6_init_6 (by assumption) rfl rfl rfl (fun h1 P1 => ?_)
  have a1 := P1.2.1
  refine k_aload_n C dX6_init_9 rfl ?_
  refine k_iconst C dX6_init_10 ?_
  refine k_put C fg_X6_15 ft_5_3 dX6_init_11 (by assumption) rfl rfl rfl (fun h2 P2 => ?_)
  have a2 := P2.2.1
  refine k_aload_n C dX6_init_14 rfl ?_
  refine k_iconst C dX6_init_15 ?_
  refine k_put C fg_X6_18 ft_5_4 dX6_init_16 (by assumption) rfl rfl rfl (fun h3 P3 => ?_)
  have a3 := P3.2.1
  refine k_aload_n C dX6_init_19 rfl ?_
  refine k_iload_n C dX6_init_20 rfl ?_
  refine k_putF C fg_X6_21 ft_5_0 rfl (fun r hr => by cases hr; rfl) dX6_init_21 (by assumption) (Or.inl rfl) rfl rfl (fun h4 P4 => ?_)
  have a4 := P4.2.1
  have Q4 := ((P1.trans P2).trans P3).trans P4
  refine k_aload_n C dX6_init_24 rfl ?_
  refine k_iconst C dX6_init_25 ?_
  refine k_iload_n C dX6_init_26 rfl ?_
  refine k_imul C dX6_init_27 ?_
  refine k_newIA C q1282 dX6_init_28 (by omega) (by omega) (fun cs h5 N5 => ?_)
  have e : (2 * (S : Int)).toNat = 2 * S := by omega
  rw [e] at N5 ⊢
  have a5 := N5.2.2.1.2 _ _ a4
  have acs := N5.ne a4
  refine k_putF C fg_X6_26 ft_5_1 rfl (fun r hr => by cases hr; rfl) dX6_init_31 (by assumption) (Or.inl rfl) rfl rfl (fun h6 P6 => ?_)
  have U6 : Upd h h6 [a] := (Q4.upd.trans (N5.2.2.1.upd [a]) (fun x hx => Or.inl hx)).trans P6.upd (fun x hx => Or.inl hx)
  have c6 := P6.2.2 _ _ N5.2.1 (Ne.symm acs)
  exact k_vret C E dX6_init_34 ⟨by omega, by omega⟩ ⟨rfl, cs, Q4.upd.none N5.1 (by simpa using Ne.symm acs), ⟨P6.2.1, fun _ => none, c6, fun k k0 k1 => rfl⟩, U6⟩
theorem c_mMachineX {w : Wd} {h : Hp} {m : Nat} {L : ML} {σ : Sg} {th z : Int} {s : Int64} (H : isMo w h m L σ th s) (hsep : sepM L σ.n σ.k) (hσ : SgOk σ) (hz : i32 z) : Ct w yX3_machine (ws_ yX3_machine cX3_machine 2 (some FieldType.int)) 8 211 3 28 [.ref m, jI z] h (fun v h' => ∃ r, v = some (jI r) ∧ (machK σ z = 0 → r = (σ.n : Nat) ∧ stepM w h h' m L σ (addM σ ((z.toNat, fun _ => none), none, -1, -1)) 0 s) ∧ (machK σ z ≠ 0 → stepM w h h' m L σ σ (machK σ z : Nat) s)) NoX := by
  have hm := H.1
  have hn := hσ.1
  unfold machK
  refine Ct.of (by decide) [some (.ref m), some (jI z)] rfl (Nat.le_of_ble_eq_true rfl) (fun K C E N0 => ?_)
  refine k_aload_n C dX3_machine_0 rfl ?_
  refine k_iconst C dX3_machine_1 ?_
  refine k_put C fg_X3_19 ft_2_0 dX3_machine_2 (by assumption) rfl rfl rfl (fun h1 P1 => ?_)
  have H1 := H.own P1
  have hm1 := H1.1
  have U1 := P1.upd
  refine k_iload_n C dX3_machine_5 rfl ?_
  refine k_iconst C dX3_machine_6 ?_
  refine k_iconst C dX3_machine_7 ?_
  refine kx_S C rfl ms_X3_27 dX3_machine_8 ((c_is (v := z) (a := 2) (b := 4) (by unfold i32 at *; omega))) rfl rfl (Nat.le_of_ble_eq_true rfl) ⟨(Nat.le_of_ble_eq_true rfl), (Nat.le_of_ble_eq_true rfl)⟩ (by omega) (fun v k1 hp_ => ?_) (fun _ _ hx => hx.elim)
  obtain ⟨rfl, rfl⟩ := hp_
  by_cases hin : 2 ≤ z ∧ z ≤ 4
  · rw [decide_eq_true hin]
    rw [if_pos hin] at E
    refine k_ifne_b C dX3_machine_11 (tgt := 20) (by decide) (fun _ => ?_) (fun z => by cases z)
    obtain ⟨f, A, F⟩ := H1.2.1
    have l1 := A.1
    refine k_aload_n C dX3_machine_20 rfl ?_
    refine k_get C fg_X3_10 dX3_machine_21 (by assumption) (by rfl) ?_
    refine kx_V C rfl mv_X3_23 dX3_machine_24 ((c_size l1)) (by assumption) rfl rfl (Nat.le_of_ble_eq_true rfl) ⟨(Nat.le_of_ble_eq_true rfl), (Nat.le_of_ble_eq_true rfl)⟩ (by omega) (fun v k1 hp_ => ?_) (fun _ _ hx => hx.elim)
    obtain ⟨rfl, rfl⟩ := hp_
    refine k_bipush C dX3_machine_27 (by decide) ?_
    refine k_icmp_ne C dX3_machine_29 (tgt := 38) (by decide) (by omega) (fun g1 => ?_) (fun g2 => ?_)
    · rw [if_pos (by omega)] at E
      obtain ⟨S, hS⟩ : ∃ S : Nat, z = (S : Int) := ⟨z.toNat, by omega⟩
      subst hS
      rw [show ((S : Nat) : Int).toNat = S from rfl] at *
      refine k_aload_n C dX3_machine_38 rfl ?_
      refine k_get C fg_X3_10 dX3_machine_39 (by assumption) (by rfl) ?_
      refine k_new C nw_X3_35 dX3_machine_42 (by omega) (fun a h2 N2 => ?_)
      have a2 := N2.2.1
      refine k_dup C dX3_machine_45 rfl ?_
      refine k_iload_n C dX3_machine_46 rfl ?_
      refine kx_I C rfl mi_X3_37 dX3_machine_47 ((c_mdInit (S := S) (by omega) a2)) rfl rfl (Nat.le_of_ble_eq_true rfl) ⟨(Nat.le_of_ble_eq_true rfl), (Nat.le_of_ble_eq_true rfl)⟩ (by omega) (fun v h3 hp_ => ?_) (fun _ _ hx => hx.elim)
      obtain ⟨rfl, cs, cs0, M3, U3⟩ := hp_
      have E3 := U3.ext0 N2.2.2.1 (by simpa using N2.1)
      have H3 := H1.ext E3
      have A3 := A.ext E3
      have l3 := A3.1
      have a3 := M3.1
      have cs1 := N2.2.2.1.old cs0
      have el : isEl h3 σ.n f := fun j j0 j1 => by
        have hj := F j.toNat (by omega)
        rw [show ((j.toNat : Nat) : Int) = j by omega] at hj
        exact ⟨_, _, hj, (H3.2.2.2.1 j.toNat (by omega)).1, rfl⟩
      have hcm := hsep.1.1
      have hlt : L.cm ≤ 15 := by
        rw [hcm]
        have : ∀ n, n < 12 → capOf n ≤ 15 := by decide
        exact this σ.n (by omega)
      have hcost : gcC σ.n L.cm ≤ 1 ∧ gcS σ.n L.cm ≤ 15 := by
        rw [hcm]
        have : ∀ n, n < 12 → gcC n (capOf n) ≤ 1 ∧ gcS n (capOf n) ≤ 15 := by decide
        exact this σ.n (by omega)
      have al : a ≠ L.lm := ne_some N2.1 A.1
      have aa : a ≠ L.am := ne_some N2.1 A.2.1
      refine kx_V C rfl mv_X3_40 dX3_machine_50 ((c_add A3 (by omega) el a3 rfl al aa)) (by assumption) rfl rfl (Nat.le_of_ble_eq_true rfl) ⟨(Nat.le_of_ble_eq_true rfl), (Nat.le_of_ble_eq_true rfl)⟩ (by omega) (fun v h6 hp_ => ?_) (fun _ _ hx => hx.elim)
      obtain ⟨rfl, q, g', r1, r2, r3, r4⟩ := hp_
      have l6 := r1.1
      have old1 : ∀ y, k1.2 y = none → h.2 y = none := fun y e => by
        cases ey : h.2 y with
        | none => rfl
        | some d =>
          by_cases ym : y = m
          · rw [ym, hm1] at e; cases e
          · rw [P1.2.2 _ _ ey ym] at e; cases e
      have st := madd_step (mc := ((S, fun _ => none), none, -1, -1)) H3 hsep (fun y c e => by
          by_cases ym : y = m
          · rw [ym, E3.2 _ _ hm1]; exact fun z => by cases z
          · rw [E3.2 _ _ (P1.2.2 _ _ e ym)]; exact fun z => by cases z) ((U1.updP (P := fun q => q = m) (fun y hy => by simpa using hy)).trans (E3.updP (fun q => q = m)) (fun y hy => Or.inl hy)) M3 (old1 _ N2.1) (old1 _ cs1) (fun i hi => ne_some N2.1 (H1.2.2.2.1 i hi).1) (fun i hi => by
          obtain ⟨-, fi, ei, -⟩ := H1.2.2.2.1 i hi
          exact ne_some cs1 ei) al (ne_some cs1 A.2.1) r1 (fun i hi => by rw [r2 i (by omega) (by omega)]; exact F i hi) r3 r4
      have m6 : ∃ v, h6.2 m = some (.inl (2, [v, .ref L.lm, .ref L.lt, jI ((σ.tk : Nat) + (σ.rf : Nat)), jI (σ.tk : Nat), jI (σ.bk : Nat), .long s])) := by
        have m3 := E3.2 _ _ hm1
        rcases r4 with ⟨-, -, u⟩ | ⟨-, -, u⟩
        · exact ⟨_, u.2 _ _ m3 (by simp [ne_cel m3 A3.1 (ne_cls (by decide)), ne_cel m3 A3.2.1 ne_ao])⟩
        · exact ⟨_, u.2 _ _ m3 (by simp [ne_cel m3 A3.1 (ne_cls (by decide))])⟩
      obtain ⟨vv, m6⟩ := m6
      refine k_pop C dX3_machine_53 rfl ?_
      refine k_aload_n C dX3_machine_54 rfl ?_
      refine k_get C fg_X3_10 dX3_machine_55 (by assumption) (by rfl) ?_
      refine kx_V C rfl mv_X3_23 dX3_machine_58 ((c_size l6)) (by assumption) rfl rfl (Nat.le_of_ble_eq_true rfl) ⟨(Nat.le_of_ble_eq_true rfl), (Nat.le_of_ble_eq_true rfl)⟩ (by omega) (fun v k7 hp_ => ?_) (fun _ _ hx => hx.elim)
      obtain ⟨rfl, rfl⟩ := hp_
      refine k_iconst C dX3_machine_61 ?_
      refine k_isub C dX3_machine_62 ?_
      rw [show ((σ.n + 1 : Nat) : Int) - 1 = (σ.n : Nat) by omega]
      exact k_iret C E dX3_machine_63 (by omega) ⟨_, rfl, fun _ => ⟨rfl, st⟩, fun z => absurd rfl z⟩
    · rw [if_neg (by omega)] at E
      refine k_aload_n C dX3_machine_32 rfl ?_
      refine k_iconst C dX3_machine_33 ?_
      refine kx_V C rfl mv_X3_31 dX3_machine_34 ((c_mRefuse (z := 2) H1)) (by assumption) rfl rfl (Nat.le_of_ble_eq_true rfl) ⟨(Nat.le_of_ble_eq_true rfl), (Nat.le_of_ble_eq_true rfl)⟩ (by omega) (fun v h2 hp_ => ?_) (fun _ _ hx => hx.elim)
      obtain ⟨rfl, H2, U2⟩ := hp_
      exact k_iret C E dX3_machine_37 (by omega) ⟨_, rfl, fun z => (by cases z), fun _ => q_step H2 hsep (U1.trans U2 (fun x hx => Or.inl hx))⟩
  · rw [decide_eq_false hin]
    rw [if_neg hin] at E
    refine k_ifne_b C dX3_machine_11 (tgt := 20) (by decide) (fun z => by cases z) (fun _ => ?_)
    refine k_aload_n C dX3_machine_14 rfl ?_
    refine k_iconst C dX3_machine_15 ?_
    refine kx_V C rfl mv_X3_31 dX3_machine_16 ((c_mRefuse (z := 1) H1)) (by assumption) rfl rfl (Nat.le_of_ble_eq_true rfl) ⟨(Nat.le_of_ble_eq_true rfl), (Nat.le_of_ble_eq_true rfl)⟩ (by omega) (fun v h2 hp_ => ?_) (fun _ _ hx => hx.elim)
    obtain ⟨rfl, H2, U2⟩ := hp_
    exact k_iret C E dX3_machine_19 (by omega) ⟨_, rfl, fun z => (by cases z), fun _ => q_step H2 hsep (U1.trans U2 (fun x hx => Or.inl hx))⟩
