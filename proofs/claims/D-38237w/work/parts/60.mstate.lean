/-! ===== the model's state; what is asked of it ===== -/
set_option maxRecDepth 100000
/-- where the model lies: the machines' list, its array, its room; the tags' the same; the machines (object, cells); the tags -/
abbrev ML : Type := (Nat × Nat × Nat) × (Nat × Nat × Nat) × (Nat → Nat × Nat) × (Nat → Nat)
abbrev ML.lm (L : ML) : Nat := L.1.1
abbrev ML.am (L : ML) : Nat := L.1.2.1
abbrev ML.cm (L : ML) : Nat := L.1.2.2
abbrev ML.lt (L : ML) : Nat := L.2.1.1
abbrev ML.at (L : ML) : Nat := L.2.1.2.1
abbrev ML.ct (L : ML) : Nat := L.2.1.2.2
abbrev ML.A (L : ML) : Nat → Nat × Nat := L.2.2.1
abbrev ML.B (L : ML) : Nat → Nat := L.2.2.2
def isTw (h : Hp) (a : Nat) (g : Tg) : Prop := ∃ f : Int → Int, h.2 a = some (aI 0 3 f) ∧ f 0 = (g.1 : Nat) ∧ f 1 = (g.2.1 : Nat) ∧ f 2 = (g.2.2 : Nat)
def isMo (w : Wd) (h : Hp) (m : Nat) (L : ML) (σ : Sg) (th : Int) (s : Int64) : Prop :=
  h.2 m = some (.inl (2, [jI th, .ref L.lm, .ref L.lt, jI ((σ.tk : Nat) + (σ.rf : Nat)), jI (σ.tk : Nat), jI (σ.bk : Nat), .long s])) ∧ (∃ f, isAL w h L.lm L.am σ.n L.cm f ∧ ∀ i : Nat, i < σ.n → f i = some (L.A i).1) ∧ (∃ f, isAL w h L.lt L.at σ.k L.ct f ∧ ∀ i : Nat, i < σ.k → f i = some (L.B i)) ∧
  (∀ i, i < σ.n → isMd h (L.A i).1 (L.A i).2 (σ.ms i).1 (kindN (σ.ms i)) (σ.ms i).2.2.1 (σ.ms i).2.2.2) ∧ (∀ i, i < σ.k → isTw h (L.B i) (σ.tg i))
theorem isMo.ext {w : Wd} {h h' : Hp} {m : Nat} {L : ML} {σ : Sg} {th : Int} {s : Int64} (E : Ext h h') (H : isMo w h m L σ th s) : isMo w h' m L σ th s := by
  obtain ⟨h1, ⟨f, h2, h3⟩, ⟨g, h4, h5⟩, h6, h7⟩ := H
  refine ⟨E.2 _ _ h1, ⟨f, h2.ext E, h3⟩, ⟨g, h4.ext E, h5⟩, fun i hi => (h6 i hi).ext E, fun i hi => ?_⟩
  obtain ⟨f, e1, e2⟩ := h7 i hi
  exact ⟨f, E.2 _ _ e1, e2⟩
/-- only the model's own object is put anew -/
theorem isMo.own {w : Wd} {h h' : Hp} {m : Nat} {L : ML} {σ : Sg} {th th' : Int} {s s' : Int64} (H : isMo w h m L σ th s) (P : Put h h' m (.inl (2, [jI th', .ref L.lm, .ref L.lt, jI ((σ.tk : Nat) + (σ.rf : Nat)), jI (σ.tk : Nat), jI (σ.bk : Nat), .long s']))) : isMo w h' m L σ th' s' := by
  obtain ⟨h1, ⟨f, h2, h3⟩, ⟨g, h4, h5⟩, h6, h7⟩ := H
  have oo : ∀ (q c : Nat) (v : List Value), h.2 q = some (.inl (c, v)) → c ≠ 2 → h'.2 q = some (.inl (c, v)) := fun q c v e hc => P.2.2 _ _ e (ne_cel e h1 (ne_cls hc))
  have aa : ∀ (q : Nat) (v : Nat × Nat × (Nat → Value)), h.2 q = some (.inr v) → h'.2 q = some (.inr v) := fun q v e => P.2.2 _ _ e (ne_cel e h1 ne_oa)
  refine ⟨P.2.1, ⟨f, ⟨oo _ _ _ h2.1 (by decide), aa _ _ h2.2.1, h2.2.2⟩, h3⟩, ⟨g, ⟨oo _ _ _ h4.1 (by decide), aa _ _ h4.2.1, h4.2.2⟩, h5⟩, fun i hi => ?_, fun i hi => ?_⟩
  · obtain ⟨e1, f, e2, e3⟩ := h6 i hi
    refine ⟨oo _ _ _ e1 (by decide), f, aa _ _ e2, fun k k0 k1 => ?_⟩
    have e4 := e3 k k0 k1
    cases hr : (σ.ms i).1.2 k with
    | none => rw [hr] at e4; exact e4
    | some r =>
      rw [hr] at e4
      obtain ⟨a, g, z1, z2, z3⟩ := e4
      exact ⟨a, g, z1, aa _ _ z2, z3⟩
  · obtain ⟨f, e1, e2⟩ := h7 i hi
    exact ⟨f, aa _ _ e1, e2⟩
theorem c_mThrown {w : Wd} {h : Hp} {m : Nat} {L : ML} {σ : Sg} {th : Int} {s : Int64} (H : isMo w h m L σ th s) : Ct w yX3_thrown (ws_ yX3_thrown cX3_thrown 1 (some FieldType.int)) 0 0 0 0 [.ref m] h (fun v h' => v = some (jI th) ∧ h' = h) NoX := by
  have hm := H.1
  refine Ct.of (by decide) [some (.ref m)] rfl (Nat.le_of_ble_eq_true rfl) (fun K C E N0 => ?_)
  refine k_aload_n C dX3_thrown_0 rfl ?_
  refine k_get C fg_X3_19 dX3_thrown_1 (by assumption) (by rfl) ?_
  exact k_iret C E dX3_thrown_4 (by omega) ⟨rfl, rfl⟩
theorem c_mRefuse {w : Wd} {h : Hp} {m : Nat} {L : ML} {σ : Sg} {th z : Int} {s : Int64} (H : isMo w h m L σ th s) : Ct w yX3_refuse (ws_ yX3_refuse cX3_refuse 2 (some FieldType.int)) 0 0 0 0 [.ref m, jI z] h (fun v h' => v = some (jI 0) ∧ isMo w h' m L σ z s ∧ Upd h h' [m]) NoX := by
  have hm := H.1
  refine Ct.of (by decide) [some (.ref m), some (jI z)] rfl (Nat.le_of_ble_eq_true rfl) (fun K C E N0 => ?_)
  refine k_aload_n C dX3_refuse_0 rfl ?_
  refine k_iload_n C dX3_refuse_1 rfl ?_
  refine k_put C fg_X3_19 ft_2_0 dX3_refuse_2 (by assumption) rfl rfl rfl (fun h1 P1 => ?_)
  refine k_iconst C dX3_refuse_5 ?_
  exact k_iret C E dX3_refuse_6 (by omega) ⟨rfl, H.own P1, P1.upd⟩
theorem c_mIsMachine {w : Wd} {h : Hp} {m : Nat} {L : ML} {σ : Sg} {th i : Int} {s : Int64} (H : isMo w h m L σ th s) (hσ : SgOk σ) (hi : i32 i) : Ct w yX3_isMachine (ws_ yX3_isMachine cX3_isMachine 2 (some FieldType.boolean)) 1 22 0 0 [.ref m, jI i] h (fun v h' => v = some (jI (b2i (mchOk σ i))) ∧ h' = h) NoX := by
  obtain ⟨hm, ⟨f, A, F⟩, -⟩ := H
  have l1 := A.1
  have hn := hσ.1
  refine Ct.of (by decide) [some (.ref m), some (jI i)] rfl (Nat.le_of_ble_eq_true rfl) (fun K C E N0 => ?_)
  refine k_iload_n C dX3_isMachine_0 rfl ?_
  refine k_iconst C dX3_isMachine_1 ?_
  refine k_aload_n C dX3_isMachine_2 rfl ?_
  refine k_get C fg_X3_10 dX3_isMachine_3 (by assumption) (by rfl) ?_
  refine kx_V C rfl mv_X3_23 dX3_isMachine_6 ((c_size l1)) (by assumption) rfl rfl (Nat.le_of_ble_eq_true rfl) ⟨(Nat.le_of_ble_eq_true rfl), (Nat.le_of_ble_eq_true rfl)⟩ (by omega) (fun v kk hp_ => ?_) (fun _ _ hx => hx.elim)
  obtain ⟨rfl, rfl⟩ := hp_
  refine k_iconst C dX3_isMachine_9 ?_
  refine k_isub C dX3_isMachine_10 ?_
  refine kx_S C rfl ms_X3_27 dX3_isMachine_11 ((c_is (v := i) (a := 0) (b := (σ.n : Int) - 1) (by unfold i32 at *; omega))) rfl rfl (Nat.le_of_ble_eq_true rfl) ⟨(Nat.le_of_ble_eq_true rfl), (Nat.le_of_ble_eq_true rfl)⟩ (by omega) (fun v kk hp_ => ?_) (fun _ _ hx => hx.elim)
  obtain ⟨rfl, rfl⟩ := hp_
  rw [show decide (0 ≤ i ∧ i ≤ (σ.n : Int) - 1) = mchOk σ i by unfold mchOk; congr 1; apply propext; constructor <;> intro z <;> omega]
  exact k_zret (b := mchOk σ i) C E dX3_isMachine_14 (by omega) ⟨rfl, rfl⟩
/-- a machine at its place in the list -/
theorem isMo.at {w : Wd} {h : Hp} {m : Nat} {L : ML} {σ : Sg} {th : Int} {s : Int64} (H : isMo w h m L σ th s) {i : Int} (hi : mchOk σ i = true) : ∃ f, isAL w h L.lm L.am σ.n L.cm f ∧ (0 ≤ i ∧ i < σ.n) ∧ f i = some (L.A i.toNat).1 ∧ isMd h (L.A i.toNat).1 (L.A i.toNat).2 (σ.ms i.toNat).1 (kindN (σ.ms i.toNat)) (σ.ms i.toNat).2.2.1 (σ.ms i.toNat).2.2.2 := by
  obtain ⟨-, ⟨f, A, F⟩, -, M, -⟩ := H
  have h1 := of_decide_eq_true hi
  have h2 := F i.toNat (by omega)
  rw [show ((i.toNat : Nat) : Int) = i by omega] at h2
  exact ⟨f, A, h1, h2, M i.toNat (by omega)⟩
/-- the end of a question: a number to tell, an answer if it is 0 -/
def qPost (w : Wd) (h : Hp) (m : Nat) (L : ML) (σ : Sg) (s : Int64) (code : Nat) (val : Int) : Option Value → Hp → Prop := fun v h' => isMo w h' m L σ (code : Nat) s ∧ Upd h h' [m] ∧ ∃ z, v = some (jI z) ∧ (code = 0 → z = val)
theorem c_mOfMachineX {w : Wd} {h : Hp} {m : Nat} {L : ML} {σ : Sg} {th i what : Int} {s : Int64} (H : isMo w h m L σ th s) (hσ : SgOk σ) (hi : i32 i) (hw : i32 what) : Ct w yX3_ofMachine (ws_ yX3_ofMachine cX3_ofMachine 3 (some FieldType.int)) 6 130 3 1020 [.ref m, jI i, jI what] h (qPost w h m L σ s (ofmK σ i what) (machC (σ.ms i.toNat) (runN (σ.ms i.toNat).1 500 c0) what)) NoX := by
  have hm := H.1
  unfold ofmK
  refine Ct.of (by decide) [some (.ref m), some (jI i), some (jI what)] rfl (Nat.le_of_ble_eq_true rfl) (fun K C E N0 => ?_)
  refine k_aload_n C dX3_ofMachine_0 rfl ?_
  refine k_iconst C dX3_ofMachine_1 ?_
  refine k_put C fg_X3_19 ft_2_0 dX3_ofMachine_2 (by assumption) rfl rfl rfl (fun h1 P1 => ?_)
  have H1 := H.own P1
  have hm1 := H1.1
  have U1 := P1.upd
  refine k_aload_n C dX3_ofMachine_5 rfl ?_
  refine k_iload_n C dX3_ofMachine_6 rfl ?_
  refine kx_V C rfl mv_X3_44 dX3_ofMachine_7 ((c_mIsMachine H1 hσ hi)) (by assumption) rfl rfl (Nat.le_of_ble_eq_true rfl) ⟨(Nat.le_of_ble_eq_true rfl), (Nat.le_of_ble_eq_true rfl)⟩ (by omega) (fun v k1 hp_ => ?_) (fun _ _ hx => hx.elim)
  obtain ⟨rfl, rfl⟩ := hp_
  cases hok : mchOk σ i with
  | false =>
    refine k_ifne_b C dX3_ofMachine_10 (tgt := 19) (by decide) (fun z => by cases z) (fun _ => ?_)
    rw [hok] at E
    refine k_aload_n C dX3_ofMachine_13 rfl ?_
    refine k_iconst C dX3_ofMachine_14 ?_
    refine kx_V C rfl mv_X3_31 dX3_ofMachine_15 ((c_mRefuse (z := 1) H1)) (by assumption) rfl rfl (Nat.le_of_ble_eq_true rfl) ⟨(Nat.le_of_ble_eq_true rfl), (Nat.le_of_ble_eq_true rfl)⟩ (by omega) (fun v h2 hp_ => ?_) (fun _ _ hx => hx.elim)
    obtain ⟨rfl, H2, U2⟩ := hp_
    exact k_iret C E dX3_ofMachine_18 (by omega) ⟨H2, U1.trans U2 (fun x hx => Or.inl hx), 0, rfl, fun z => (by cases z)⟩
  | true =>
    refine k_ifne_b C dX3_ofMachine_10 (tgt := 19) (by decide) (fun _ => ?_) (fun z => by cases z)
    rw [hok] at E
    obtain ⟨f, A, hin, hf, M⟩ := H1.at hok
    have mok := hσ.2.2.1 i.toNat (by omega)
    refine k_iload_n C dX3_ofMachine_19 rfl ?_
    refine k_iconst C dX3_ofMachine_20 ?_
    refine k_bipush C dX3_ofMachine_21 (by decide) ?_
    refine kx_S C rfl ms_X3_27 dX3_ofMachine_23 ((c_is (v := what) (a := 0) (b := 8) (by unfold i32 at *; omega))) rfl rfl (Nat.le_of_ble_eq_true rfl) ⟨(Nat.le_of_ble_eq_true rfl), (Nat.le_of_ble_eq_true rfl)⟩ (by omega) (fun v k1 hp_ => ?_) (fun _ _ hx => hx.elim)
    obtain ⟨rfl, rfl⟩ := hp_
    by_cases hwh : 0 ≤ what ∧ what ≤ 8
    · rw [decide_eq_true hwh]
      rw [if_pos rfl, if_pos hwh] at E
      refine k_ifeq_b C dX3_ofMachine_26 (tgt := 48) (by decide) (fun z => by cases z) (fun _ => ?_)
      have l1 := A.1
      have M1 := M.1
      refine k_aload_n C dX3_ofMachine_29 rfl ?_
      refine k_aload_n C dX3_ofMachine_30 rfl ?_
      refine k_get C fg_X3_10 dX3_ofMachine_31 (by assumption) (by rfl) ?_
      refine k_iload_n C dX3_ofMachine_34 rfl ?_
      refine kx_V C rfl mv_X3_48 dX3_ofMachine_35 ((c_get A hin hf)) (by assumption) rfl rfl (Nat.le_of_ble_eq_true rfl) ⟨(Nat.le_of_ble_eq_true rfl), (Nat.le_of_ble_eq_true rfl)⟩ (by omega) (fun v k1 hp_ => ?_) (fun _ _ hx => hx.elim)
      obtain ⟨rfl, rfl⟩ := hp_
      refine k_castO C ck_X3_35_5 dX3_ofMachine_38 (by assumption) ?_
      refine k_iload_n C dX3_ofMachine_41 rfl ?_
      refine kx_V C rfl mv_X3_221 dX3_ofMachine_42 ((c_mOfMachine hm1 M mok hwh)) (by assumption) rfl rfl (Nat.le_of_ble_eq_true rfl) ⟨(Nat.le_of_ble_eq_true rfl), (Nat.le_of_ble_eq_true rfl)⟩ (by omega) (fun v h3 hp_ => ?_) (fun _ _ hx => hx.elim)
      obtain ⟨rfl, E3⟩ := hp_
      refine k_goto C dX3_ofMachine_45 (tgt := 53) (by decide) ?_
      exact k_iret C E dX3_ofMachine_53 (by omega) ⟨H1.ext E3, U1.trans (E3.upd [m]) (fun x hx => Or.inl hx), _, rfl, fun _ => rfl⟩
    · rw [decide_eq_false hwh]
      rw [if_pos rfl, if_neg hwh] at E
      refine k_ifeq_b C dX3_ofMachine_26 (tgt := 48) (by decide) (fun _ => ?_) (fun z => by cases z)
      refine k_aload_n C dX3_ofMachine_48 rfl ?_
      refine k_iconst C dX3_ofMachine_49 ?_
      refine kx_V C rfl mv_X3_31 dX3_ofMachine_50 ((c_mRefuse (z := 2) H1)) (by assumption) rfl rfl (Nat.le_of_ble_eq_true rfl) ⟨(Nat.le_of_ble_eq_true rfl), (Nat.le_of_ble_eq_true rfl)⟩ (by omega) (fun v h2 hp_ => ?_) (fun _ _ hx => hx.elim)
      obtain ⟨rfl, H2, U2⟩ := hp_
      exact k_iret C E dX3_ofMachine_53 (by omega) ⟨H2, U1.trans U2 (fun x hx => Or.inl hx), 0, rfl, fun z => (by cases z)⟩
