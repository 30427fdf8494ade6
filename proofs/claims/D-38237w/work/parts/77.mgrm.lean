/-! ===== the model: windows ===== -/
set_option maxRecDepth 100000
/-- the model's windows: the rows to both sides in an array, the windows -/
def isWm (h : Hp) (ws sd la ra : Nat) (T : Tb) (M : Nat) (g : Gw) : Prop := h.2 sd = some (aR 6 2 (fun j => if j = 0 then some la else some ra)) ∧ h.2 la = some (aI 1 M g.lf) ∧ h.2 ra = some (aI 1 M g.rg) ∧ h.2 ws = some (aI 1 (szW T M) g.sn) ∧ la ≠ ra ∧ la ≠ ws ∧ ra ≠ ws
theorem andW {n M : Nat} (hM : isM n M) {a : Int} (ha : 0 ≤ a) : ((a.toNat &&& ((M : Int) - 1).toNat : Nat) : Int) = a % M := by
  have k : ∀ m : Nat, ((a.toNat &&& (2 ^ m - 1) : Nat) : Int) = a % ((2 ^ m : Nat) : Int) := fun m => by
    rw [Nat.and_two_pow_sub_one_eq_mod, Int.natCast_emod, Int.toNat_of_nonneg ha]
  rcases hM with ⟨-, rfl⟩ | ⟨-, rfl⟩ | ⟨-, rfl⟩
  · exact k 1
  · exact k 2
  · exact k 3
theorem and1W {a : Int} (ha : 0 ≤ a) : ((a.toNat &&& (1 : Int).toNat : Nat) : Int) = a % 2 := by
  rw [show (1 : Int).toNat = 1 from rfl, Nat.and_one_is_mod, Int.natCast_emod, Int.toNat_of_nonneg ha]
  rfl
theorem made_w {n M : Nat} (hM : isM n M) {s b l r : Int} : (2 * s + b) * (M : Int) * M + (l * M + r) = numW M s b l r := by
  unfold numW
  rcases hM with ⟨rfl, rfl⟩ | ⟨rfl, rfl⟩ | ⟨rfl, rfl⟩ <;> omega
theorem gram_go {w : Wd} {K : KT} {nm : String} {ret : Option FieldType} {fr lo mc ms md ws sd la ra p n M k N S : Nat} {T : Tb} {g : Gw} {r : Ru} {gc : Int → Int} {hh : Hp} (C : Cx w K yX3_isGram.cls cX3_isGram 18 ret nm fr lo mc ms) (hM : isM n M) (hT : TbOk T) (W : isWm hh ws sd la ra T M g) (gok : GwOk g) (h1 : (k : Int) < ((szW T M : Nat) : Int)) (hr : RuOk T.1 r) (hne : ¬ r.2.2 = T.1) (hp : hh.2 p = some (aI 0 3 gc)) (c0 : gc 0 = r.1) (c1 : gc 1 = r.2.1) (c2 : gc 2 = r.2.2)
    (fin : ∀ h' : Hp, isWm h' ws sd la ra T M (goX M r g k) → Upd hh h' [la, ra, ws] → Wk w K h' N S 328 [some (.ref md), some (jI (n : Nat)), some (jI (M : Nat)), some (.ref ws), some (.ref sd), some (jI (b2i (goX M r g k).gr)), some (jI (k : Nat)), none, none, none, none, none, none, none, none, none, none, none] []) : Wk w K hh N S 105 [some (.ref md), some (jI (n : Nat)), some (jI (M : Nat)), some (.ref ws), some (.ref sd), some (jI (b2i g.gr)), some (jI (k : Nat)), some (.ref p), none, none, none, none, none, none, none, none, none, none] [] := by
  obtain ⟨p1, p2, p3, p4, p5⟩ := pw_n hM
  obtain ⟨z1, z2, z3⟩ := szW_b hT hM
  have hn : 1 ≤ n ∧ n ≤ 3 ∧ 2 ≤ M ∧ M ≤ 8 := by rcases hM with ⟨rfl, rfl⟩ | ⟨rfl, rfl⟩ | ⟨rfl, rfl⟩ <;> omega
  have h0 : (0 : Int) ≤ k := by omega
  obtain ⟨a1, a2, a3, a4, -⟩ := win_b hM h0 (S := T.1) (by unfold szW at h1; exact h1)
  have a5 : 0 ≤ (k : Int) / (M : Int) ∧ (k : Int) / (M : Int) ≤ k := by rcases hM with ⟨rfl, rfl⟩ | ⟨rfl, rfl⟩ | ⟨rfl, rfl⟩ <;> omega
  have hT2 := hT.2.1
  obtain ⟨u1, u2, u3, u4⟩ := id hr
  have b01 : ∀ b : Bool, 0 ≤ b2i b ∧ b2i b ≤ 1 := fun b => by cases b <;> decide
  have rest : ∀ b : Bool, ritB r = b → Wk w K hh N S 132 [some (.ref md), some (jI (n : Nat)), some (jI (M : Nat)), some (.ref ws), some (.ref sd), some (jI (b2i g.gr)), some (jI (k : Nat)), some (.ref p), some (jI ((k : Int) / M % M)), some (jI ((k : Int) % M)), none, none, none, none, none, none, none, none] [jI (b2i b)] := by
    intro b hb
    have gb := b01 g.gr
    obtain ⟨V1, V2, V3, V4, V5, V6, V7⟩ := id W
    cases b
    · -- false
      have hgn := gn_b hM (a := ((k : Int) % M) * 2 + r.1) (by omega)
      have step : ∀ (x : Int) (h3 : Hp) (gg : Gw), (x = 0 ∨ x = 1) → isWm h3 ws sd la ra T M gg → GwOk gg → Upd hh h3 [la, ra, ws] → (∀ h4 : Hp, isWm h4 ws sd la ra T M (seeX M r false ((k : Int) / M % M) ((((k : Int) % M) * 2 + r.1) % M) gg x) → Upd hh h4 [la, ra, ws] → Wk w K h4 N S 219 [some (.ref md), some (jI (n : Nat)), some (jI (M : Nat)), some (.ref ws), some (.ref sd), some (jI (b2i (seeX M r false ((k : Int) / M % M) ((((k : Int) % M) * 2 + r.1) % M) gg x).gr)), some (jI (k : Nat)), some (.ref p), some (jI ((k : Int) / M % M)), some (jI ((k : Int) % M)), some (jI (b2i false)), none, some (jI ((k : Int) / M % M)), none, some (jI ((((k : Int) % M) * 2 + r.1) % M)), some (jI (x + 1)), none, none] []) → Wk w K h3 N S 219 [some (.ref md), some (jI (n : Nat)), some (jI (M : Nat)), some (.ref ws), some (.ref sd), some (jI (b2i gg.gr)), some (jI (k : Nat)), some (.ref p), some (jI ((k : Int) / M % M)), some (jI ((k : Int) % M)), some (jI (b2i false)), none, some (jI ((k : Int) / M % M)), none, some (jI ((((k : Int) % M) * 2 + r.1) % M)), some (jI (x)), none, none] [] := by
        intro x h3 gg hx W gok U cont
        have nb := nxt_w hM (a := (k : Int) / M % M) (by omega) hx
        obtain ⟨W1, W2, W3, W4, W5, W6, W7⟩ := id W
        obtain ⟨k1, k2, k3⟩ := id gok
        have gb := b01 gg.gr
        have hp' := U.2 _ _ hp (by simp [ne_cel hp V2 (ne_knd (by decide)), ne_cel hp V3 (ne_knd (by decide)), ne_cel hp V4 (ne_knd (by decide))])
        have hM2 : 0 ≤ (M : Int) / 2 ∧ (M : Int) / 2 ≤ 4 := by omega
        have hxM : 0 ≤ x * ((M : Int) / 2) ∧ x * ((M : Int) / 2) ≤ 4 := by rcases hx with rfl | rfl <;> omega
        have nn := num_b hM (S := T.1) (s := r.2.2) (b := ((k : Int) / M % M) % 2) (l := ((k : Int) / M % M) / 2 + x * ((M : Int) / 2)) (r := (((k : Int) % M) * 2 + r.1) % M) (by omega) (by omega) (by omega) (by omega)
        have nn2 : numW M r.2.2 ((k : Int) / M % M % 2) (((k : Int) / M % M) / 2 + x * ((M : Int) / 2)) ((((k : Int) % M) * 2 + r.1) % M) < ((szW T M : Nat) : Int) := nn.2
        have hx3 : 0 ≤ x ∧ x ≤ 1 := by omega
        refine k_iload C dX3_isGram_219 rfl ?_
        refine k_iconst C dX3_isGram_221 ?_
        refine k_icmp_ge C dX3_isGram_222 (tgt := 328) (by decide) (by omega) (fun g1 => ?_) (fun g2 => ?_)
        · omega
        · refine k_iload C dX3_isGram_225 rfl ?_
          refine k_iconst C dX3_isGram_227 ?_
          refine k_ishr C dX3_isGram_228 (by omega) ?_
          rw [show (2 : Int) ^ (1 : Int).toNat = 2 from rfl]
          refine k_iload C dX3_isGram_229 rfl ?_
          refine k_iload_n C dX3_isGram_231 rfl ?_
          refine k_iconst C dX3_isGram_232 ?_
          refine k_isub C dX3_isGram_233 ?_
          refine k_ishl C dX3_isGram_234 (by omega) ?_
          rw [p5]
          refine k_ior C dX3_isGram_235 (by omega) ?_
          rw [orN hM (by omega) hx]
          refine k_istore C dX3_isGram_236 (Nat.le_of_ble_eq_true rfl) rfl ?_
          refine k_aload C dX3_isGram_238 rfl ?_
          refine k_iload C dX3_isGram_240 rfl ?_
          refine k_ifeq_b C dX3_isGram_242 (tgt := 249) (by decide) (fun g4 => ?_) (fun g3 => ?_)
          rotate_left
          · cases g3
          · refine k_iconst C dX3_isGram_249 ?_
            refine k_aald C dX3_isGram_250 (by assumption) (by rfl) (by rfl) (by omega) (show (if (0 : Int) = 0 then some la else some ra) = some la from rfl) ?_
            refine k_iload C dX3_isGram_251 rfl ?_
            refine k_zald C dX3_isGram_253 (by assumption) (by omega) ?_
            have v1 := k1 (((k : Int) / M % M) / 2 + x * ((M : Int) / 2))
            refine k_if_ne C dX3_isGram_254 (tgt := 260) (by decide) (by omega) (fun g5 => ?_) (fun g6 => ?_)
            · have es : seeX M r false ((k : Int) / M % M) ((((k : Int) % M) * 2 + r.1) % M) gg x = mkSeen gg (numW M r.2.2 ((k : Int) / M % M % 2) (((k : Int) / M % M) / 2 + x * ((M : Int) / 2)) ((((k : Int) % M) * 2 + r.1) % M)) := by unfold seeX sideOf; rw [if_neg (show ¬ (if false = true then gg.rg else gg.lf) (((k : Int) / M % M) / 2 + x * ((M : Int) / 2)) = 0 from g5)]; rfl
              rw [es] at cont
              refine k_iconst C dX3_isGram_260 ?_
              refine k_aload C dX3_isGram_261 rfl ?_
              refine k_iconst C dX3_isGram_263 ?_
              refine k_iald C dX3_isGram_264 (by assumption) (by rfl) (by omega) ?_
              rw [c2]
              refine k_imul C dX3_isGram_265 ?_
              refine k_iload C dX3_isGram_266 rfl ?_
              refine k_iconst C dX3_isGram_268 ?_
              refine k_iand C dX3_isGram_269 (by omega) ?_
              rw [and1W (by omega)]
              refine k_iadd C dX3_isGram_270 ?_
              refine k_iload_n C dX3_isGram_271 rfl ?_
              refine k_imul C dX3_isGram_272 ?_
              refine k_iload_n C dX3_isGram_273 rfl ?_
              refine k_imul C dX3_isGram_274 ?_
              refine k_iload C dX3_isGram_275 rfl ?_
              refine k_ifeq_b C dX3_isGram_277 (tgt := 290) (by decide) (fun g4 => ?_) (fun g3 => ?_)
              rotate_left
              · cases g3
              · refine k_iload C dX3_isGram_290 rfl ?_
                refine k_iload_n C dX3_isGram_292 rfl ?_
                refine k_imul C dX3_isGram_293 ?_
                refine k_iload C dX3_isGram_294 rfl ?_
                refine k_iadd C dX3_isGram_296 ?_
                refine k_iadd C dX3_isGram_297 ?_
                rw [made_w hM]
                refine k_istore C dX3_isGram_298 (Nat.le_of_ble_eq_true rfl) rfl ?_
                refine k_iload C dX3_isGram_300 rfl ?_
                refine k_aload_n C dX3_isGram_302 rfl ?_
                refine k_iload C dX3_isGram_303 rfl ?_
                refine k_zald C dX3_isGram_305 (by assumption) (by omega) ?_
                have v2 := k3 (numW M r.2.2 ((k : Int) / M % M % 2) (((k : Int) / M % M) / 2 + x * ((M : Int) / 2)) ((((k : Int) % M) * 2 + r.1) % M))
                have at314 : ∀ z : Bool, z = decide (gg.sn (numW M r.2.2 ((k : Int) / M % M % 2) (((k : Int) / M % M) / 2 + x * ((M : Int) / 2)) ((((k : Int) % M) * 2 + r.1) % M)) = 0) → Wk w K h3 N S 314 [some (.ref md), some (jI (n : Nat)), some (jI (M : Nat)), some (.ref ws), some (.ref sd), some (jI (b2i gg.gr)), some (jI (k : Nat)), some (.ref p), some (jI ((k : Int) / M % M)), some (jI ((k : Int) % M)), some (jI (b2i false)), none, some (jI ((k : Int) / M % M)), none, some (jI ((((k : Int) % M) * 2 + r.1) % M)), some (jI (x)), none,some (jI (numW M r.2.2 ((k : Int) / M % M % 2) (((k : Int) / M % M) / 2 + x * ((M : Int) / 2)) ((((k : Int) % M) * 2 + r.1) % M)))] [jI (b2i z), jI (b2i gg.gr)] := by
                  intro z hz
                  have zb := b01 z
                  refine k_ior C dX3_isGram_314 (by omega) ?_
                  rw [hz, orB]
                  refine k_istore C dX3_isGram_315 (Nat.le_of_ble_eq_true rfl) rfl ?_
                  refine k_aload_n C dX3_isGram_317 rfl ?_
                  refine k_iload C dX3_isGram_318 rfl ?_
                  refine k_iconst C dX3_isGram_320 ?_
                  refine k_zast (b := true) C dX3_isGram_321 W4 (by omega) (fun h5 P5 => ?_)
                  refine k_iinc C dX3_isGram_322 rfl rfl ?_
                  refine k_goto C dX3_isGram_325 (tgt := 219) (by decide) ?_
                  have W5' : isWm h5 ws sd la ra T M (mkSeen gg (numW M r.2.2 ((k : Int) / M % M % 2) (((k : Int) / M % M) / 2 + x * ((M : Int) / 2)) ((((k : Int) % M) * 2 + r.1) % M))) := ⟨P5.2.2 _ _ W1 (ne_cel W1 W4 (ne_knd (by decide))), P5.2.2 _ _ W2 W6, P5.2.2 _ _ W3 W7, P5.2.1, W5, W6, W7⟩
                  exact Wk.sub (by repeat (first | exact trivial | apply Lle.so | apply Lle.no)) (cont h5 W5' (U.trans P5.upd (fun y hy => Or.inl (by
                    have hy' : y = ws := by simpa using hy
                    simp [hy']))))
                refine k_if_ne C dX3_isGram_306 (tgt := 313) (by decide) (by omega) (fun g7 => ?_) (fun g8 => ?_)
                · refine k_iconst C dX3_isGram_313 ?_
                  exact Wk.sub (by repeat (first | exact trivial | apply Lle.so | apply Lle.no)) (at314 false (decide_eq_false g7).symm)
                · refine k_iconst C dX3_isGram_309 ?_
                  refine k_goto C dX3_isGram_310 (tgt := 314) (by decide) ?_
                  exact Wk.sub (by repeat (first | exact trivial | apply Lle.so | apply Lle.no)) (at314 true (decide_eq_true g8).symm)
            · have es : seeX M r false ((k : Int) / M % M) ((((k : Int) % M) * 2 + r.1) % M) gg x = gg := by unfold seeX sideOf; rw [if_pos (show (if false = true then gg.rg else gg.lf) (((k : Int) / M % M) / 2 + x * ((M : Int) / 2)) = 0 from g6)]
              rw [es] at cont
              refine k_goto C dX3_isGram_257 (tgt := 322) (by decide) ?_
              refine k_iinc C dX3_isGram_322 rfl rfl ?_
              refine k_goto C dX3_isGram_325 (tgt := 219) (by decide) ?_
              exact Wk.sub (by repeat (first | exact trivial | apply Lle.so | apply Lle.no)) (cont h3 W U)
      refine k_istore C dX3_isGram_132 (Nat.le_of_ble_eq_true rfl) rfl ?_
      refine k_iload C dX3_isGram_134 rfl ?_
      refine k_ifeq_b C dX3_isGram_136 (tgt := 144) (by decide) (fun g4 => ?_) (fun g3 => ?_)
      rotate_left
      · cases g3
      · refine k_iload C dX3_isGram_144 rfl ?_
        refine k_istore C dX3_isGram_146 (Nat.le_of_ble_eq_true rfl) rfl ?_
        refine k_iload C dX3_isGram_148 rfl ?_
        refine k_ifeq_b C dX3_isGram_150 (tgt := 158) (by decide) (fun g4 => ?_) (fun g3 => ?_)
        rotate_left
        · cases g3
        · refine k_iload C dX3_isGram_158 rfl ?_
          refine k_istore C dX3_isGram_160 (Nat.le_of_ble_eq_true rfl) rfl ?_
          refine k_aload C dX3_isGram_162 rfl ?_
          refine k_iload C dX3_isGram_164 rfl ?_
          refine k_ifeq_b C dX3_isGram_166 (tgt := 173) (by decide) (fun g4 => ?_) (fun g3 => ?_)
          rotate_left
          · cases g3
          · refine k_iconst C dX3_isGram_173 ?_
            refine k_aald C dX3_isGram_174 (by assumption) (by rfl) (by rfl) (by omega) (show (if (1 : Int) = 0 then some la else some ra) = some ra from rfl) ?_
            refine k_astore C dX3_isGram_175 (Nat.le_of_ble_eq_true rfl) rfl ?_
            refine k_iload C dX3_isGram_177 rfl ?_
            refine k_aload C dX3_isGram_179 rfl ?_
            refine k_iload C dX3_isGram_181 rfl ?_
            refine k_zald C dX3_isGram_183 (by assumption) (by omega) ?_
            have v0 := gok.2.1 ((k : Int) % M)
            have at192 : ∀ z : Bool, z = decide (g.rg ((k : Int) % M) = 0) → Wk w K hh N S 192 [some (.ref md), some (jI (n : Nat)), some (jI (M : Nat)), some (.ref ws), some (.ref sd), some (jI (b2i g.gr)), some (jI (k : Nat)), some (.ref p), some (jI ((k : Int) / M % M)), some (jI ((k : Int) % M)), some (jI (b2i false)), some (jI ((k : Int) % M)), some (jI ((k : Int) / M % M)), some (.ref ra), none, none, none, none] [jI (b2i z), jI (b2i g.gr)] := by
              intro z hz
              have zb := b01 z
              refine k_ior C dX3_isGram_192 (by omega) ?_
              rw [hz, orB]
              refine k_istore C dX3_isGram_193 (Nat.le_of_ble_eq_true rfl) rfl ?_
              refine k_aload C dX3_isGram_195 rfl ?_
              refine k_iload C dX3_isGram_197 rfl ?_
              refine k_iconst C dX3_isGram_199 ?_
              refine k_zast (b := true) C dX3_isGram_200 V3 (by omega) (fun h5 P5 => ?_)
              have hp5 := P5.2.2 _ _ hp (ne_cel hp V3 (ne_knd (by decide)))
              have W5 : isWm h5 ws sd la ra T M (mkSide false g (behW M k false)) := ⟨P5.2.2 _ _ V1 (ne_cel V1 V3 (ne_knd (by decide))), P5.2.2 _ _ V2 V5, P5.2.1, P5.2.2 _ _ V4 (Ne.symm V7), V5, V6, V7⟩
              have gok5 : GwOk (mkSide false g (behW M k false)) := mkSide_ok gok
              have U5 : Upd hh h5 [la, ra, ws] := P5.upd.sub (by simp)
              refine k_iload C dX3_isGram_201 rfl ?_
              refine k_iconst C dX3_isGram_203 ?_
              refine k_ishl C dX3_isGram_204 (by omega) ?_
              rw [show (2 : Int) ^ (1 : Int).toNat = 2 from rfl]
              refine k_aload C dX3_isGram_205 rfl ?_
              refine k_iconst C dX3_isGram_207 ?_
              refine k_iald C dX3_isGram_208 (by assumption) (by rfl) (by omega) ?_
              rw [c0]
              refine k_ior C dX3_isGram_209 (by omega) ?_
              rw [orW hM (by omega) u1]
              refine k_iload_n C dX3_isGram_210 rfl ?_
              refine k_iconst C dX3_isGram_211 ?_
              refine k_isub C dX3_isGram_212 ?_
              refine k_iand C dX3_isGram_213 (by omega) ?_
              rw [andW hM (by omega)]
              refine k_istore C dX3_isGram_214 (Nat.le_of_ble_eq_true rfl) rfl ?_
              refine k_iconst C dX3_isGram_216 ?_
              refine k_istore C dX3_isGram_217 (Nat.le_of_ble_eq_true rfl) rfl ?_
              refine Wk.sub (by repeat (first | exact trivial | apply Lle.so | apply Lle.no)) (step 0 h5 _ (Or.inl rfl) W5 gok5 U5 (fun h6 W6 U6 => ?_))
              refine Wk.sub (by repeat (first | exact trivial | apply Lle.so | apply Lle.no)) (step 1 h6 _ (Or.inr rfl) W6 (seeX_ok gok5) U6 (fun h7 W7 U7 => ?_))
              refine k_iload C dX3_isGram_219 rfl ?_
              refine k_iconst C dX3_isGram_221 ?_
              refine k_icmp_ge C dX3_isGram_222 (tgt := 328) (by decide) (by omega) (fun g9 => ?_) (fun g10 => ?_)
              · have eg : goX M r g k = seeX M r false ((k : Int) / M % M) ((((k : Int) % M) * 2 + r.1) % M) (seeX M r false ((k : Int) / M % M) ((((k : Int) % M) * 2 + r.1) % M) (mkSide false g (behW M k false)) 0) 1 := by unfold goX; rw [hb]; rfl
                have F := fin h7 (by rw [eg]; exact W7) U7
                rw [eg] at F
                exact Wk.sub (by repeat (first | exact trivial | apply Lle.so | apply Lle.no)) F
              · omega
            refine k_if_ne C dX3_isGram_184 (tgt := 191) (by decide) (by omega) (fun g11 => ?_) (fun g12 => ?_)
            · refine k_iconst C dX3_isGram_191 ?_
              exact at192 false (decide_eq_false g11).symm
            · refine k_iconst C dX3_isGram_187 ?_
              refine k_goto C dX3_isGram_188 (tgt := 192) (by decide) ?_
              exact at192 true (decide_eq_true g12).symm
    · -- true
      have hgn := gn_b hM (a := ((k : Int) / M % M) * 2 + r.1) (by omega)
      have step : ∀ (x : Int) (h3 : Hp) (gg : Gw), (x = 0 ∨ x = 1) → isWm h3 ws sd la ra T M gg → GwOk gg → Upd hh h3 [la, ra, ws] → (∀ h4 : Hp, isWm h4 ws sd la ra T M (seeX M r true ((k : Int) % M) ((((k : Int) / M % M) * 2 + r.1) % M) gg x) → Upd hh h4 [la, ra, ws] → Wk w K h4 N S 219 [some (.ref md), some (jI (n : Nat)), some (jI (M : Nat)), some (.ref ws), some (.ref sd), some (jI (b2i (seeX M r true ((k : Int) % M) ((((k : Int) / M % M) * 2 + r.1) % M) gg x).gr)), some (jI (k : Nat)), some (.ref p), some (jI ((k : Int) / M % M)), some (jI ((k : Int) % M)), some (jI (b2i true)), none, some (jI ((k : Int) % M)), none, some (jI ((((k : Int) / M % M) * 2 + r.1) % M)), some (jI (x + 1)), none, none] []) → Wk w K h3 N S 219 [some (.ref md), some (jI (n : Nat)), some (jI (M : Nat)), some (.ref ws), some (.ref sd), some (jI (b2i gg.gr)), some (jI (k : Nat)), some (.ref p), some (jI ((k : Int) / M % M)), some (jI ((k : Int) % M)), some (jI (b2i true)), none, some (jI ((k : Int) % M)), none, some (jI ((((k : Int) / M % M) * 2 + r.1) % M)), some (jI (x)), none, none] [] := by
        intro x h3 gg hx W gok U cont
        have nb := nxt_w hM (a := (k : Int) % M) (by omega) hx
        obtain ⟨W1, W2, W3, W4, W5, W6, W7⟩ := id W
        obtain ⟨k1, k2, k3⟩ := id gok
        have gb := b01 gg.gr
        have hp' := U.2 _ _ hp (by simp [ne_cel hp V2 (ne_knd (by decide)), ne_cel hp V3 (ne_knd (by decide)), ne_cel hp V4 (ne_knd (by decide))])
        have hM2 : 0 ≤ (M : Int) / 2 ∧ (M : Int) / 2 ≤ 4 := by omega
        have hxM : 0 ≤ x * ((M : Int) / 2) ∧ x * ((M : Int) / 2) ≤ 4 := by rcases hx with rfl | rfl <;> omega
        have nn := num_b hM (S := T.1) (s := r.2.2) (b := ((k : Int) % M) % 2) (l := (((k : Int) / M % M) * 2 + r.1) % M) (r := ((k : Int) % M) / 2 + x * ((M : Int) / 2)) (by omega) (by omega) (by omega) (by omega)
        have nn2 : numW M r.2.2 ((k : Int) % M % 2) ((((k : Int) / M % M) * 2 + r.1) % M) (((k : Int) % M) / 2 + x * ((M : Int) / 2)) < ((szW T M : Nat) : Int) := nn.2
        have hx3 : 0 ≤ x ∧ x ≤ 1 := by omega
        refine k_iload C dX3_isGram_219 rfl ?_
        refine k_iconst C dX3_isGram_221 ?_
        refine k_icmp_ge C dX3_isGram_222 (tgt := 328) (by decide) (by omega) (fun g1 => ?_) (fun g2 => ?_)
        · omega
        · refine k_iload C dX3_isGram_225 rfl ?_
          refine k_iconst C dX3_isGram_227 ?_
          refine k_ishr C dX3_isGram_228 (by omega) ?_
          rw [show (2 : Int) ^ (1 : Int).toNat = 2 from rfl]
          refine k_iload C dX3_isGram_229 rfl ?_
          refine k_iload_n C dX3_isGram_231 rfl ?_
          refine k_iconst C dX3_isGram_232 ?_
          refine k_isub C dX3_isGram_233 ?_
          refine k_ishl C dX3_isGram_234 (by omega) ?_
          rw [p5]
          refine k_ior C dX3_isGram_235 (by omega) ?_
          rw [orN hM (by omega) hx]
          refine k_istore C dX3_isGram_236 (Nat.le_of_ble_eq_true rfl) rfl ?_
          refine k_aload C dX3_isGram_238 rfl ?_
          refine k_iload C dX3_isGram_240 rfl ?_
          refine k_ifeq_b C dX3_isGram_242 (tgt := 249) (by decide) (fun g3 => ?_) (fun g4 => ?_)
          · cases g3
          · refine k_iconst C dX3_isGram_245 ?_
            refine k_goto C dX3_isGram_246 (tgt := 250) (by decide) ?_
            refine k_aald C dX3_isGram_250 (by assumption) (by rfl) (by rfl) (by omega) (show (if (1 : Int) = 0 then some la else some ra) = some ra from rfl) ?_
            refine k_iload C dX3_isGram_251 rfl ?_
            refine k_zald C dX3_isGram_253 (by assumption) (by omega) ?_
            have v1 := k2 (((k : Int) % M) / 2 + x * ((M : Int) / 2))
            refine k_if_ne C dX3_isGram_254 (tgt := 260) (by decide) (by omega) (fun g5 => ?_) (fun g6 => ?_)
            · have es : seeX M r true ((k : Int) % M) ((((k : Int) / M % M) * 2 + r.1) % M) gg x = mkSeen gg (numW M r.2.2 ((k : Int) % M % 2) ((((k : Int) / M % M) * 2 + r.1) % M) (((k : Int) % M) / 2 + x * ((M : Int) / 2))) := by unfold seeX sideOf; rw [if_neg (show ¬ (if true = true then gg.rg else gg.lf) (((k : Int) % M) / 2 + x * ((M : Int) / 2)) = 0 from g5)]; rfl
              rw [es] at cont
              refine k_iconst C dX3_isGram_260 ?_
              refine k_aload C dX3_isGram_261 rfl ?_
              refine k_iconst C dX3_isGram_263 ?_
              refine k_iald C dX3_isGram_264 (by assumption) (by rfl) (by omega) ?_
              rw [c2]
              refine k_imul C dX3_isGram_265 ?_
              refine k_iload C dX3_isGram_266 rfl ?_
              refine k_iconst C dX3_isGram_268 ?_
              refine k_iand C dX3_isGram_269 (by omega) ?_
              rw [and1W (by omega)]
              refine k_iadd C dX3_isGram_270 ?_
              refine k_iload_n C dX3_isGram_271 rfl ?_
              refine k_imul C dX3_isGram_272 ?_
              refine k_iload_n C dX3_isGram_273 rfl ?_
              refine k_imul C dX3_isGram_274 ?_
              refine k_iload C dX3_isGram_275 rfl ?_
              refine k_ifeq_b C dX3_isGram_277 (tgt := 290) (by decide) (fun g3 => ?_) (fun g4 => ?_)
              · cases g3
              · refine k_iload C dX3_isGram_280 rfl ?_
                refine k_iload_n C dX3_isGram_282 rfl ?_
                refine k_imul C dX3_isGram_283 ?_
                refine k_iload C dX3_isGram_284 rfl ?_
                refine k_iadd C dX3_isGram_286 ?_
                refine k_goto C dX3_isGram_287 (tgt := 297) (by decide) ?_
                refine k_iadd C dX3_isGram_297 ?_
                rw [made_w hM]
                refine k_istore C dX3_isGram_298 (Nat.le_of_ble_eq_true rfl) rfl ?_
                refine k_iload C dX3_isGram_300 rfl ?_
                refine k_aload_n C dX3_isGram_302 rfl ?_
                refine k_iload C dX3_isGram_303 rfl ?_
                refine k_zald C dX3_isGram_305 (by assumption) (by omega) ?_
                have v2 := k3 (numW M r.2.2 ((k : Int) % M % 2) ((((k : Int) / M % M) * 2 + r.1) % M) (((k : Int) % M) / 2 + x * ((M : Int) / 2)))
                have at314 : ∀ z : Bool, z = decide (gg.sn (numW M r.2.2 ((k : Int) % M % 2) ((((k : Int) / M % M) * 2 + r.1) % M) (((k : Int) % M) / 2 + x * ((M : Int) / 2))) = 0) → Wk w K h3 N S 314 [some (.ref md), some (jI (n : Nat)), some (jI (M : Nat)), some (.ref ws), some (.ref sd), some (jI (b2i gg.gr)), some (jI (k : Nat)), some (.ref p), some (jI ((k : Int) / M % M)), some (jI ((k : Int) % M)), some (jI (b2i true)), none, some (jI ((k : Int) % M)), none, some (jI ((((k : Int) / M % M) * 2 + r.1) % M)), some (jI (x)), none,some (jI (numW M r.2.2 ((k : Int) % M % 2) ((((k : Int) / M % M) * 2 + r.1) % M) (((k : Int) % M) / 2 + x * ((M : Int) / 2))))] [jI (b2i z), jI (b2i gg.gr)] := by
                  intro z hz
                  have zb := b01 z
                  refine k_ior C dX3_isGram_314 (by omega) ?_
                  rw [hz, orB]
                  refine k_istore C dX3_isGram_315 (Nat.le_of_ble_eq_true rfl) rfl ?_
                  refine k_aload_n C dX3_isGram_317 rfl ?_
                  refine k_iload C dX3_isGram_318 rfl ?_
                  refine k_iconst C dX3_isGram_320 ?_
                  refine k_zast (b := true) C dX3_isGram_321 W4 (by omega) (fun h5 P5 => ?_)
                  refine k_iinc C dX3_isGram_322 rfl rfl ?_
                  refine k_goto C dX3_isGram_325 (tgt := 219) (by decide) ?_
                  have W5' : isWm h5 ws sd la ra T M (mkSeen gg (numW M r.2.2 ((k : Int) % M % 2) ((((k : Int) / M % M) * 2 + r.1) % M) (((k : Int) % M) / 2 + x * ((M : Int) / 2)))) := ⟨P5.2.2 _ _ W1 (ne_cel W1 W4 (ne_knd (by decide))), P5.2.2 _ _ W2 W6, P5.2.2 _ _ W3 W7, P5.2.1, W5, W6, W7⟩
                  exact Wk.sub (by repeat (first | exact trivial | apply Lle.so | apply Lle.no)) (cont h5 W5' (U.trans P5.upd (fun y hy => Or.inl (by
                    have hy' : y = ws := by simpa using hy
                    simp [hy']))))
                refine k_if_ne C dX3_isGram_306 (tgt := 313) (by decide) (by omega) (fun g7 => ?_) (fun g8 => ?_)
                · refine k_iconst C dX3_isGram_313 ?_
                  exact Wk.sub (by repeat (first | exact trivial | apply Lle.so | apply Lle.no)) (at314 false (decide_eq_false g7).symm)
                · refine k_iconst C dX3_isGram_309 ?_
                  refine k_goto C dX3_isGram_310 (tgt := 314) (by decide) ?_
                  exact Wk.sub (by repeat (first | exact trivial | apply Lle.so | apply Lle.no)) (at314 true (decide_eq_true g8).symm)
            · have es : seeX M r true ((k : Int) % M) ((((k : Int) / M % M) * 2 + r.1) % M) gg x = gg := by unfold seeX sideOf; rw [if_pos (show (if true = true then gg.rg else gg.lf) (((k : Int) % M) / 2 + x * ((M : Int) / 2)) = 0 from g6)]
              rw [es] at cont
              refine k_goto C dX3_isGram_257 (tgt := 322) (by decide) ?_
              refine k_iinc C dX3_isGram_322 rfl rfl ?_
              refine k_goto C dX3_isGram_325 (tgt := 219) (by decide) ?_
              exact Wk.sub (by repeat (first | exact trivial | apply Lle.so | apply Lle.no)) (cont h3 W U)
      refine k_istore C dX3_isGram_132 (Nat.le_of_ble_eq_true rfl) rfl ?_
      refine k_iload C dX3_isGram_134 rfl ?_
      refine k_ifeq_b C dX3_isGram_136 (tgt := 144) (by decide) (fun g3 => ?_) (fun g4 => ?_)
      · cases g3
      · refine k_iload C dX3_isGram_139 rfl ?_
        refine k_goto C dX3_isGram_141 (tgt := 146) (by decide) ?_
        refine k_istore C dX3_isGram_146 (Nat.le_of_ble_eq_true rfl) rfl ?_
        refine k_iload C dX3_isGram_148 rfl ?_
        refine k_ifeq_b C dX3_isGram_150 (tgt := 158) (by decide) (fun g3 => ?_) (fun g4 => ?_)
        · cases g3
        · refine k_iload C dX3_isGram_153 rfl ?_
          refine k_goto C dX3_isGram_155 (tgt := 160) (by decide) ?_
          refine k_istore C dX3_isGram_160 (Nat.le_of_ble_eq_true rfl) rfl ?_
          refine k_aload C dX3_isGram_162 rfl ?_
          refine k_iload C dX3_isGram_164 rfl ?_
          refine k_ifeq_b C dX3_isGram_166 (tgt := 173) (by decide) (fun g3 => ?_) (fun g4 => ?_)
          · cases g3
          · refine k_iconst C dX3_isGram_169 ?_
            refine k_goto C dX3_isGram_170 (tgt := 174) (by decide) ?_
            refine k_aald C dX3_isGram_174 (by assumption) (by rfl) (by rfl) (by omega) (show (if (0 : Int) = 0 then some la else some ra) = some la from rfl) ?_
            refine k_astore C dX3_isGram_175 (Nat.le_of_ble_eq_true rfl) rfl ?_
            refine k_iload C dX3_isGram_177 rfl ?_
            refine k_aload C dX3_isGram_179 rfl ?_
            refine k_iload C dX3_isGram_181 rfl ?_
            refine k_zald C dX3_isGram_183 (by assumption) (by omega) ?_
            have v0 := gok.1 ((k : Int) / M % M)
            have at192 : ∀ z : Bool, z = decide (g.lf ((k : Int) / M % M) = 0) → Wk w K hh N S 192 [some (.ref md), some (jI (n : Nat)), some (jI (M : Nat)), some (.ref ws), some (.ref sd), some (jI (b2i g.gr)), some (jI (k : Nat)), some (.ref p), some (jI ((k : Int) / M % M)), some (jI ((k : Int) % M)), some (jI (b2i true)), some (jI ((k : Int) / M % M)), some (jI ((k : Int) % M)), some (.ref la), none, none, none, none] [jI (b2i z), jI (b2i g.gr)] := by
              intro z hz
              have zb := b01 z
              refine k_ior C dX3_isGram_192 (by omega) ?_
              rw [hz, orB]
              refine k_istore C dX3_isGram_193 (Nat.le_of_ble_eq_true rfl) rfl ?_
              refine k_aload C dX3_isGram_195 rfl ?_
              refine k_iload C dX3_isGram_197 rfl ?_
              refine k_iconst C dX3_isGram_199 ?_
              refine k_zast (b := true) C dX3_isGram_200 V2 (by omega) (fun h5 P5 => ?_)
              have hp5 := P5.2.2 _ _ hp (ne_cel hp V2 (ne_knd (by decide)))
              have W5 : isWm h5 ws sd la ra T M (mkSide true g (behW M k true)) := ⟨P5.2.2 _ _ V1 (ne_cel V1 V2 (ne_knd (by decide))), P5.2.1, P5.2.2 _ _ V3 (Ne.symm V5), P5.2.2 _ _ V4 (Ne.symm V6), V5, V6, V7⟩
              have gok5 : GwOk (mkSide true g (behW M k true)) := mkSide_ok gok
              have U5 : Upd hh h5 [la, ra, ws] := P5.upd.sub (by simp)
              refine k_iload C dX3_isGram_201 rfl ?_
              refine k_iconst C dX3_isGram_203 ?_
              refine k_ishl C dX3_isGram_204 (by omega) ?_
              rw [show (2 : Int) ^ (1 : Int).toNat = 2 from rfl]
              refine k_aload C dX3_isGram_205 rfl ?_
              refine k_iconst C dX3_isGram_207 ?_
              refine k_iald C dX3_isGram_208 (by assumption) (by rfl) (by omega) ?_
              rw [c0]
              refine k_ior C dX3_isGram_209 (by omega) ?_
              rw [orW hM (by omega) u1]
              refine k_iload_n C dX3_isGram_210 rfl ?_
              refine k_iconst C dX3_isGram_211 ?_
              refine k_isub C dX3_isGram_212 ?_
              refine k_iand C dX3_isGram_213 (by omega) ?_
              rw [andW hM (by omega)]
              refine k_istore C dX3_isGram_214 (Nat.le_of_ble_eq_true rfl) rfl ?_
              refine k_iconst C dX3_isGram_216 ?_
              refine k_istore C dX3_isGram_217 (Nat.le_of_ble_eq_true rfl) rfl ?_
              refine Wk.sub (by repeat (first | exact trivial | apply Lle.so | apply Lle.no)) (step 0 h5 _ (Or.inl rfl) W5 gok5 U5 (fun h6 W6 U6 => ?_))
              refine Wk.sub (by repeat (first | exact trivial | apply Lle.so | apply Lle.no)) (step 1 h6 _ (Or.inr rfl) W6 (seeX_ok gok5) U6 (fun h7 W7 U7 => ?_))
              refine k_iload C dX3_isGram_219 rfl ?_
              refine k_iconst C dX3_isGram_221 ?_
              refine k_icmp_ge C dX3_isGram_222 (tgt := 328) (by decide) (by omega) (fun g9 => ?_) (fun g10 => ?_)
              · have eg : goX M r g k = seeX M r true ((k : Int) % M) ((((k : Int) / M % M) * 2 + r.1) % M) (seeX M r true ((k : Int) % M) ((((k : Int) / M % M) * 2 + r.1) % M) (mkSide true g (behW M k true)) 0) 1 := by unfold goX; rw [hb]; rfl
                have F := fin h7 (by rw [eg]; exact W7) U7
                rw [eg] at F
                exact Wk.sub (by repeat (first | exact trivial | apply Lle.so | apply Lle.no)) F
              · omega
            refine k_if_ne C dX3_isGram_184 (tgt := 191) (by decide) (by omega) (fun g11 => ?_) (fun g12 => ?_)
            · refine k_iconst C dX3_isGram_191 ?_
              exact at192 false (decide_eq_false g11).symm
            · refine k_iconst C dX3_isGram_187 ?_
              refine k_goto C dX3_isGram_188 (tgt := 192) (by decide) ?_
              exact at192 true (decide_eq_true g12).symm
  refine k_iload C dX3_isGram_105 rfl ?_
  refine k_iload_n C dX3_isGram_107 rfl ?_
  refine k_idiv C dX3_isGram_108 (by omega) ?_
  refine k_iload_n C dX3_isGram_109 rfl ?_
  refine k_irem C dX3_isGram_110 (by omega) ?_
  refine k_istore C dX3_isGram_111 (Nat.le_of_ble_eq_true rfl) rfl ?_
  refine k_iload C dX3_isGram_113 rfl ?_
  refine k_iload_n C dX3_isGram_115 rfl ?_
  refine k_irem C dX3_isGram_116 (by omega) ?_
  refine k_istore C dX3_isGram_117 (Nat.le_of_ble_eq_true rfl) rfl ?_
  refine k_aload C dX3_isGram_119 rfl ?_
  refine k_iconst C dX3_isGram_121 ?_
  refine k_iald C dX3_isGram_122 (by assumption) (by rfl) (by omega) ?_
  rw [c1]
  refine k_iconst C dX3_isGram_123 ?_
  refine k_icmp_ne C dX3_isGram_124 (tgt := 131) (by decide) (by omega) (fun g1 => ?_) (fun g2 => ?_)
  · refine k_iconst C dX3_isGram_131 ?_
    exact Wk.sub (by repeat (first | exact trivial | apply Lle.so | apply Lle.no)) (rest false (decide_eq_false (by omega)))
  · refine k_iconst C dX3_isGram_127 ?_
    refine k_goto C dX3_isGram_128 (tgt := 132) (by decide) ?_
    exact Wk.sub (by repeat (first | exact trivial | apply Lle.so | apply Lle.no)) (rest true (decide_eq_true (by omega)))
theorem isWm.ne {h h' : Hp} {ws sd la ra M : Nat} {T : Tb} {g : Gw} (W : isWm h ws sd la ra T M g) (e : h'.2 = h.2) : isWm h' ws sd la ra T M g := by
  unfold isWm
  rw [e]
  exact W
theorem c_mIsGram {w : Wd} {h : Hp} {md cs n : Nat} {T : Tb} {kv av bv : Int} (hn : 1 ≤ n ∧ n ≤ 3) (G : isMd h md cs T kv av bv) (hT : TbOk T) : Ct w yX3_isGram (ws_ yX3_isGram cX3_isGram 18 (some FieldType.boolean)) 0 0 4 532 [.ref md, jI (n : Nat)] h (fun v h' => v = some (jI (b2i (gramB T n))) ∧ Ext h h') NoX := by
  have hM := isM_pow hn
  obtain ⟨p1, p2, p3, p4, p5⟩ := pw_n hM
  obtain ⟨z1, z2, z3⟩ := szW_b hT hM
  have hT2 := hT.2.1
  obtain ⟨m0, fc, m1, m2⟩ := id G
  have hM8 : 2 ≤ 2 ^ n ∧ 2 ^ n ≤ 8 := by rcases hM with ⟨-, e⟩ | ⟨-, e⟩ | ⟨-, e⟩ <;> omega
  generalize hMe : 2 ^ n = M at *
  have hMM : 4 ≤ (M : Int) * M ∧ (M : Int) * M ≤ 64 := by rcases hM with ⟨rfl, rfl⟩ | ⟨rfl, rfl⟩ | ⟨rfl, rfl⟩ <;> omega
  have hsz : ((T.1 : Nat) : Int) * 2 * M * M = ((szW T M : Nat) : Int) := by unfold szW; rw [Int.natCast_mul, Int.natCast_mul, Int.natCast_mul]; rfl
  have hgb : gramB T n = closeF T M 600 g0 := by unfold gramB; rw [hMe]
  rw [hgb]
  generalize hres : closeF T M 600 g0 = res at *
  refine Ct.of (by decide) [some (.ref md), some (jI (n : Nat)), none, none, none, none, none, none, none, none, none, none, none, none, none, none, none, none] rfl (Nat.le_of_ble_eq_true rfl) (fun K C E N0 => ?_)
  refine k_iconst C dX3_isGram_0 ?_
  refine k_iload_n C dX3_isGram_1 rfl ?_
  refine k_ishl C dX3_isGram_2 (by omega) ?_
  rw [p1]
  refine k_istore_n C dX3_isGram_3 (Nat.le_of_ble_eq_true rfl) rfl ?_
  refine k_aload_n C dX3_isGram_4 rfl ?_
  refine k_getN C fn_X3_52 dX3_isGram_5 (by assumption) (by rfl) ?_
  refine k_iconst C dX3_isGram_8 ?_
  refine k_imul C dX3_isGram_9 ?_
  refine k_iload_n C dX3_isGram_10 rfl ?_
  refine k_imul C dX3_isGram_11 ?_
  refine k_iload_n C dX3_isGram_12 rfl ?_
  refine k_imul C dX3_isGram_13 ?_
  rw [hsz]
  refine k_newarr (kd := 1) (g := fun j : Nat => jI ((fun _ => 0 : Int → Int) (j : Int))) C q999 rfl rfl (fun _ => rfl) dX3_isGram_14 (by omega) (by decide) (by omega) (fun ws h1 N1 => ?_)
  rw [show ((szW T M : Nat) : Int).toNat = szW T M from rfl] at N1 ⊢
  refine k_astore_n C dX3_isGram_16 (Nat.le_of_ble_eq_true rfl) rfl ?_
  refine k_iconst C dX3_isGram_17 ?_
  refine k_iload_n C dX3_isGram_18 rfl ?_
  refine k_mulZ C q1513 q999 dX3_isGram_19 (by omega) ⟨by omega, by show _ ≤ 532; omega⟩ (fun sd la ra h2 sd0 la0 ra0 hne6 S2 A2 B2 E2 => ?_)
  rw [show ((M : Nat) : Int).toNat = M from rfl] at A2 B2 ⊢
  have w2 := E2.2 _ _ N1.2.1
  have w2' : h2.2 ws = some (aI 1 (szW T M) (fun _ => 0)) := w2
  have wla : la ≠ ws := ne_some la0 N1.2.1
  have wra : ra ≠ ws := ne_some ra0 N1.2.1
  have wsd : sd ≠ ws := ne_some sd0 N1.2.1
  refine k_astore C dX3_isGram_23 (Nat.le_of_ble_eq_true rfl) rfl ?_
  refine k_aload_n C dX3_isGram_25 rfl ?_
  refine k_iconst C dX3_isGram_26 ?_
  refine k_iconst C dX3_isGram_27 ?_
  refine k_zast (b := true) C dX3_isGram_28 w2' (by omega) (fun h3 P3 => ?_)
  have S3 := P3.2.2 _ _ S2 wsd
  have A3 := P3.2.2 _ _ A2 wla
  have B3 := P3.2.2 _ _ B2 wra
  refine k_aload C dX3_isGram_29 rfl ?_
  refine k_iconst C dX3_isGram_31 ?_
  refine k_aald C dX3_isGram_32 (by assumption) (by rfl) (by rfl) (by omega) (show (if (0 : Int) = 0 then some la else some ra) = some la from rfl) ?_
  refine k_iconst C dX3_isGram_33 ?_
  refine k_iconst C dX3_isGram_34 ?_
  refine k_zast (b := true) C dX3_isGram_35 A3 (by omega) (fun h4 P4 => ?_)
  have S4 := P4.2.2 _ _ S3 hne6.1
  have B4 := P4.2.2 _ _ B3 (Ne.symm hne6.2.2)
  have w4 := P4.2.2 _ _ P3.2.1 (Ne.symm wla)
  refine k_aload C dX3_isGram_36 rfl ?_
  refine k_iconst C dX3_isGram_38 ?_
  refine k_aald C dX3_isGram_39 (by assumption) (by rfl) (by rfl) (by omega) (show (if (1 : Int) = 0 then some la else some ra) = some ra from rfl) ?_
  refine k_iconst C dX3_isGram_40 ?_
  refine k_iconst C dX3_isGram_41 ?_
  refine k_zast (b := true) C dX3_isGram_42 B4 (by omega) (fun h5 P5 => ?_)
  have S5 := P5.2.2 _ _ S4 hne6.2.1
  have A5 := P5.2.2 _ _ P4.2.1 hne6.2.2
  have w5 := P5.2.2 _ _ w4 (Ne.symm wra)
  have W5 : isWm h5 ws sd la ra T M g0 := ⟨S5, A5, P5.2.1, w5, hne6.2.2, wla, wra⟩
  have E12 := N1.2.2.1.trans E2
  have la00 : h.2 la = none := N1.2.2.1.old la0
  have ra00 : h.2 ra = none := N1.2.2.1.old ra0
  have ws00 : h.2 ws = none := N1.1
  have E5 : Ext h h5 := P5.upd.ext0 (P4.upd.ext0 (P3.upd.ext0 E12 (by simpa using ws00)) (by simpa using la00)) (by simpa using ra00)
  have hS : ∀ q ∈ [la, ra, ws], h.2 q = none := by simp [la00, ra00, ws00]
  refine k_iconst C dX3_isGram_43 ?_
  refine k_istore C dX3_isGram_44 (Nat.le_of_ble_eq_true rfl) rfl ?_
  have outer : ∀ (f : Nat) (hh : Hp) (gg : Gw), isWm hh ws sd la ra T M gg → GwOk gg → (gg.gr = true → zerG M (szW T M) gg < f) → Ext h hh → closeF T M f gg = res → Wk w K hh 4 (0 + szW T M + 2 + 2 * M) 46 [some (.ref md), some (jI (n : Nat)), some (jI (M : Nat)), some (.ref ws), some (.ref sd), some (jI (b2i gg.gr)), none, none, none, none, none, none, none, none, none, none, none, none] [] := by
    intro f
    induction f with
    | zero =>
      intro hh gg W ok hz U hr
      refine k_iload C dX3_isGram_46 rfl ?_
      refine k_ifeq_b C dX3_isGram_48 (tgt := 337) (by decide) (fun g1 => ?_) (fun g2 => ?_)
      · refine k_iconst C dX3_isGram_337 ?_
        rw [closeF_no g1] at hr
        exact k_zret (b := true) C E dX3_isGram_338 ⟨by omega, by omega⟩ ⟨by rw [hr], U⟩
      · exact absurd (hz g2) (by omega)
    | succ f ih =>
      intro hh gg W ok hz U hr
      refine k_iload C dX3_isGram_46 rfl ?_
      refine k_ifeq_b C dX3_isGram_48 (tgt := 337) (by decide) (fun g1 => ?_) (fun g2 => ?_)
      · refine k_iconst C dX3_isGram_337 ?_
        rw [closeF_no g1] at hr
        exact k_zret (b := true) C E dX3_isGram_338 ⟨by omega, by omega⟩ ⟨by rw [hr], U⟩
      · have hz' := hz g2
        refine k_iconst C dX3_isGram_51 ?_
        refine k_istore C dX3_isGram_52 (Nat.le_of_ble_eq_true rfl) rfl ?_
        refine k_iconst C dX3_isGram_54 ?_
        refine k_istore C dX3_isGram_55 (Nat.le_of_ble_eq_true rfl) rfl ?_
        have W' : isWm hh ws sd la ra T M (gg.lf, gg.rg, gg.sn, false) := W
        have L0 : Less M (szW T M) (zerG M (szW T M) gg) (gg.lf, gg.rg, gg.sn, false) := ⟨Nat.le_refl _, fun z => by cases z⟩
        have inner : ∀ (d k : Nat) (hh : Hp) (g3 : Gw), k + d = szW T M → isWm hh ws sd la ra T M g3 → GwOk g3 → Less M (szW T M) (zerG M (szW T M) gg) g3 → Ext h hh → passW T M (szW T M) 0 (gg.lf, gg.rg, gg.sn, false) = passW T M d k g3 → Wk w K hh 4 (0 + szW T M + 2 + 2 * M) 57 [some (.ref md), some (jI (n : Nat)), some (jI (M : Nat)), some (.ref ws), some (.ref sd), some (jI (b2i g3.gr)), some (jI (k : Nat)), none, none, none, none, none, none, none, none, none, none, none] [] := by
          intro d
          induction d with
          | zero =>
            intro k hh g3 hk W ok L U hp
            have W4 := W.2.2.2.1
            rw [closeF_on g2 hp] at hr
            refine k_iload C dX3_isGram_57 rfl ?_
            refine k_aload_n C dX3_isGram_59 rfl ?_
            refine k_alen C dX3_isGram_60 (by assumption) (by rfl) ?_
            refine k_icmp_ge C dX3_isGram_61 (tgt := 334) (by decide) (by omega) (fun g5 => ?_) (fun g6 => ?_)
            · refine k_goto C dX3_isGram_334 (tgt := 46) (by decide) ?_
              exact Wk.sub (by repeat (first | exact trivial | apply Lle.so | apply Lle.no)) (ih hh g3 W ok (fun z => by have := L.2 z; omega) U hr)
            · omega
          | succ d ihd =>
            intro k hh g3 hk W ok L U hp
            have W4 := W.2.2.2.1
            have s01 := ok.2.2 (k : Int)
            have m01 := U.2 _ _ m0
            have m11 := U.2 _ _ m1
            have hkz : (k : Int) < ((szW T M : Nat) : Int) := by omega
            obtain ⟨a1, a2, a3, a4, -⟩ := win_b hM (show (0 : Int) ≤ k by omega) (S := T.1) (by unfold szW at hkz; exact hkz)
            refine k_iload C dX3_isGram_57 rfl ?_
            refine k_aload_n C dX3_isGram_59 rfl ?_
            refine k_alen C dX3_isGram_60 (by assumption) (by rfl) ?_
            refine k_icmp_ge C dX3_isGram_61 (tgt := 334) (by decide) (by omega) (fun g5 => ?_) (fun g6 => ?_)
            · omega
            · refine k_aload_n C dX3_isGram_64 rfl ?_
              refine k_iload C dX3_isGram_65 rfl ?_
              refine k_zald C dX3_isGram_67 (by assumption) (by omega) ?_
              refine k_if_ne C dX3_isGram_68 (tgt := 74) (by decide) (by omega) (fun g7 => ?_) (fun g8 => ?_)
              · refine k_aload_n C dX3_isGram_74 rfl ?_
                refine k_getN C fn_X3_59 dX3_isGram_75 (by assumption) (by rfl) ?_
                refine k_iload C dX3_isGram_78 rfl ?_
                refine k_iload_n C dX3_isGram_80 rfl ?_
                refine k_iload_n C dX3_isGram_81 rfl ?_
                refine k_imul C dX3_isGram_82 ?_
                refine k_idiv C dX3_isGram_83 (by omega) ?_
                have no : goW T M g3 (k : Int) = none → ∀ x7 : Option Value, Wk w K hh 4 (0 + szW T M + 2 + 2 * M) 103 [some (.ref md), some (jI (n : Nat)), some (jI (M : Nat)), some (.ref ws), some (.ref sd), some (jI (b2i g3.gr)), some (jI (k : Nat)), x7, none, none, none, none, none, none, none, none, none, none] [] := by
                  intro hg x7
                  rw [passW_none g7 hg] at hp
                  rw [closeF_end g2 hp] at hr
                  refine k_iconst C dX3_isGram_103 ?_
                  exact k_zret (b := false) C E dX3_isGram_104 ⟨by omega, by omega⟩ ⟨by rw [hr], U⟩
                have hc := m2 ((k : Int) / ((M : Int) * M)) (by omega) (by omega)
                cases hr3 : T.2 ((k : Int) / ((M : Int) * M)) with
                | none =>
                  rw [hr3] at hc
                  have hf : fc ((k : Int) / ((M : Int) * M)) = none := hc
                  refine k_aald C dX3_isGram_84 (by assumption) (by rfl) (by rfl) (by omega) hf ?_
                  refine k_astoreN C dX3_isGram_85 (Nat.le_of_ble_eq_true rfl) rfl ?_
                  refine k_aloadN C dX3_isGram_87 rfl ?_
                  refine k_ifnullN C dX3_isGram_89 (tgt := 103) (by decide) ?_
                  exact Wk.sub (by repeat (first | exact trivial | apply Lle.so | apply Lle.no)) (no (by unfold goW; rw [hr3]) none)
                | some r =>
                  rw [hr3] at hc
                  obtain ⟨p, gc, hf, hpc, c0, c1, c2⟩ := hc
                  have hp1 := U.2 _ _ hpc
                  have hru := hT.2.2 _ r (by omega) (by omega) hr3
                  obtain ⟨u1, u2, u3, u4⟩ := id hru
                  refine k_aald C dX3_isGram_84 (by assumption) (by rfl) (by rfl) (by omega) hf ?_
                  refine k_astore C dX3_isGram_85 (Nat.le_of_ble_eq_true rfl) rfl ?_
                  refine k_aload C dX3_isGram_87 rfl ?_
                  refine k_ifnull C dX3_isGram_89 ?_
                  refine k_aload C dX3_isGram_92 rfl ?_
                  refine k_iconst C dX3_isGram_94 ?_
                  refine k_iald C dX3_isGram_95 (by assumption) (by rfl) (by omega) ?_
                  rw [c2]
                  refine k_aload_n C dX3_isGram_96 rfl ?_
                  refine k_getN C fn_X3_52 dX3_isGram_97 (by assumption) (by rfl) ?_
                  refine k_icmp_ne C dX3_isGram_100 (tgt := 105) (by decide) (by omega) (fun g9 => ?_) (fun g10 => ?_)
                  · have hg : goW T M g3 (k : Int) = some (goX M r g3 k) := by unfold goW; rw [hr3]; exact if_neg g9
                    rw [passW_some g7 hg] at hp
                    refine Wk.sub (by repeat (first | exact trivial | apply Lle.so | apply Lle.no)) (gram_go C hM hT W ok (by omega) hru g9 hp1 c0 c1 c2 (fun h' W' U' => ?_))
                    refine k_iinc C dX3_isGram_328 rfl rfl ?_
                    refine k_goto C dX3_isGram_331 (tgt := 57) (by decide) ?_
                    exact Wk.sub (by repeat (first | exact trivial | apply Lle.so | apply Lle.no)) (ihd (k + 1) h' _ (by omega) W' (goW_ok ok hg) (goW_less hT hM (by omega) (by omega) L hg) (U'.ext0 U hS) hp)
                  · exact Wk.sub (by repeat (first | exact trivial | apply Lle.so | apply Lle.no)) (no (by unfold goW; rw [hr3]; exact if_pos g10) none)
              · refine k_goto C dX3_isGram_71 (tgt := 328) (by decide) ?_
                refine k_iinc C dX3_isGram_328 rfl rfl ?_
                refine k_goto C dX3_isGram_331 (tgt := 57) (by decide) ?_
                rw [passW_skip g8] at hp
                exact Wk.sub (by repeat (first | exact trivial | apply Lle.so | apply Lle.no)) (ihd (k + 1) hh g3 (by omega) W ok L U hp)
        exact Wk.sub (by repeat (first | exact trivial | apply Lle.so | apply Lle.no)) (inner (szW T M) 0 hh _ (by omega) W' ok L0 U rfl)
  exact Wk.widen (by omega) (by omega) (Wk.sub (by repeat (first | exact trivial | apply Lle.so | apply Lle.no)) (outer 600 h5 g0 W5 g0_ok (fun _ => g0_less hT hM) E5 hres))
theorem c_mGramNow {w : Wd} {h : Hp} {md cs : Nat} {T : Tb} {kv av bv : Int} (G : isMd h md cs T kv av bv) (hT : TbOk T) : Ct w yX3_gramNow (ws_ yX3_gramNow cX3_gramNow 2 (some FieldType.int)) 1 37 12 1596 [.ref md] h (fun v h' => v = some (jI (gramNow T)) ∧ Ext h h') NoX := by
  generalize hgn : gramNow T = gn at *
  unfold gramNow at hgn
  refine Ct.of (by decide) [some (.ref md), none] rfl (Nat.le_of_ble_eq_true rfl) (fun K C E N0 => ?_)
  refine k_iconst C dX3_gramNow_0 ?_
  refine k_istore_n C dX3_gramNow_1 (Nat.le_of_ble_eq_true rfl) rfl ?_
  have one : ∀ (a : Nat) (hh : Hp) (N S : Nat), 1 ≤ a ∧ a ≤ 3 → Ext h hh → N + 4 ≤ 12 → S + 532 ≤ 1596 → (gramB T a = true → gn = a) → (gramB T a = false → ∀ h2 : Hp, Ext h h2 → Wk w K h2 (N + 4) (S + 532) 2 [some (.ref md), some (jI ((a + 1 : Nat) : Int))] []) → Wk w K hh N S 2 [some (.ref md), some (jI (a : Nat))] [] := by
    intro a hh N S ha E0 hN hS y n
    refine k_iload_n C dX3_gramNow_2 rfl ?_
    refine k_iconst C dX3_gramNow_3 ?_
    refine k_icmp_ge C dX3_gramNow_4 (tgt := 23) (by decide) (by omega) (fun g1 => ?_) (fun g2 => ?_)
    · omega
    · refine k_aload_n C dX3_gramNow_7 rfl ?_
      refine k_iload_n C dX3_gramNow_8 rfl ?_
      refine kx_S C rfl ms_X3_123 dX3_gramNow_9 ((c_mIsGram ha (G.ext E0) hT)) rfl rfl (Nat.le_of_ble_eq_true rfl) ⟨(Nat.le_of_ble_eq_true rfl), (Nat.le_of_ble_eq_true rfl)⟩ (by omega) (fun v h2 hp_ => ?_) (fun _ _ hx => hx.elim)
      obtain ⟨rfl, E2⟩ := hp_
      refine k_ifeq_b C dX3_gramNow_12 (tgt := 17) (by decide) (fun g3 => ?_) (fun g4 => ?_)
      · refine k_iinc C dX3_gramNow_17 rfl rfl ?_
        refine k_goto C dX3_gramNow_20 (tgt := 2) (by decide) ?_
        exact n g3 h2 (E0.trans E2)
      · refine k_iload_n C dX3_gramNow_15 rfl ?_
        rw [← y g4]
        exact k_iret C E dX3_gramNow_16 (by omega) ⟨rfl, E0.trans E2⟩
  refine one 1 h 0 0 (by omega) (Ext.refl _) (by omega) (by omega) (fun z => by rw [← hgn, if_pos z]; rfl) (fun n1 h1 E1 => ?_)
  refine one 2 h1 _ _ (by omega) E1 (by omega) (by omega) (fun z => by rw [← hgn, if_neg (by rw [n1]; decide), if_pos z]; rfl) (fun n2 h2 E2 => ?_)
  refine one 3 h2 _ _ (by omega) E2 (by omega) (by omega) (fun z => by rw [← hgn, if_neg (by rw [n1]; decide), if_neg (by rw [n2]; decide), if_pos z]; rfl) (fun n3 h3 E3 => ?_)
  rw [if_neg (by rw [n1]; decide), if_neg (by rw [n2]; decide), if_neg (by rw [n3]; decide)] at hgn
  refine k_iload_n C dX3_gramNow_2 rfl ?_
  refine k_iconst C dX3_gramNow_3 ?_
  refine k_icmp_ge C dX3_gramNow_4 (tgt := 23) (by decide) (by omega) (fun g1 => ?_) (fun g2 => ?_)
  · refine k_iconst C dX3_gramNow_23 ?_
    rw [hgn]
    exact k_iret C E dX3_gramNow_24 (by omega) ⟨rfl, E3⟩
  · omega
theorem c_mGramInX {w : Wd} {h : Hp} {m : Nat} {L : ML} {σ : Sg} {th i : Int} {s : Int64} (H : isMo w h m L σ th s) (hσ : SgOk σ) (hi : i32 i) : Ct w yX3_gramIn (ws_ yX3_gramIn cX3_gramIn 2 (some FieldType.int)) 3 64 12 1596 [.ref m, jI i] h (qPost w h m L σ s (oneK σ i) (gramNow (σ.ms i.toNat).1)) NoX := by
  have hm := H.1
  unfold oneK
  refine Ct.of (by decide) [some (.ref m), some (jI i)] rfl (Nat.le_of_ble_eq_true rfl) (fun K C E N0 => ?_)
  refine k_aload_n C dX3_gramIn_0 rfl ?_
  refine k_iconst C dX3_gramIn_1 ?_
  refine k_put C fg_X3_19 ft_2_0 dX3_gramIn_2 (by assumption) rfl rfl rfl (fun h1 P1 => ?_)
  have H1 := H.own P1
  have hm1 := H1.1
  have U1 := P1.upd
  refine k_aload_n C dX3_gramIn_5 rfl ?_
  refine k_iload_n C dX3_gramIn_6 rfl ?_
  refine kx_V C rfl mv_X3_44 dX3_gramIn_7 ((c_mIsMachine H1 hσ hi)) (by assumption) rfl rfl (Nat.le_of_ble_eq_true rfl) ⟨(Nat.le_of_ble_eq_true rfl), (Nat.le_of_ble_eq_true rfl)⟩ (by omega) (fun v k1 hp_ => ?_) (fun _ _ hx => hx.elim)
  obtain ⟨rfl, rfl⟩ := hp_
  cases hok : mchOk σ i with
  | false =>
    refine k_ifeq_b C dX3_gramIn_10 (tgt := 30) (by decide) (fun _ => ?_) (fun z => by cases z)
    rw [hok] at E
    refine k_aload_n C dX3_gramIn_30 rfl ?_
    refine k_iconst C dX3_gramIn_31 ?_
    refine kx_V C rfl mv_X3_31 dX3_gramIn_32 ((c_mRefuse (z := 1) H1)) (by assumption) rfl rfl (Nat.le_of_ble_eq_true rfl) ⟨(Nat.le_of_ble_eq_true rfl), (Nat.le_of_ble_eq_true rfl)⟩ (by omega) (fun v h2 hp_ => ?_) (fun _ _ hx => hx.elim)
    obtain ⟨rfl, H2, U2⟩ := hp_
    exact k_iret C E dX3_gramIn_35 (by omega) ⟨H2, U1.trans U2 (fun x hx => Or.inl hx), 0, rfl, fun z => (by cases z)⟩
  | true =>
    refine k_ifeq_b C dX3_gramIn_10 (tgt := 30) (by decide) (fun z => by cases z) (fun _ => ?_)
    rw [hok] at E
    obtain ⟨f, A, hin, hf, M⟩ := H1.at hok
    have mok := hσ.2.2.1 i.toNat (by omega)
    have l1 := A.1
    have M1 := M.1
    refine k_aload_n C dX3_gramIn_13 rfl ?_
    refine k_get C fg_X3_10 dX3_gramIn_14 (by assumption) (by rfl) ?_
    refine k_iload_n C dX3_gramIn_17 rfl ?_
    refine kx_V C rfl mv_X3_48 dX3_gramIn_18 ((c_get A hin hf)) (by assumption) rfl rfl (Nat.le_of_ble_eq_true rfl) ⟨(Nat.le_of_ble_eq_true rfl), (Nat.le_of_ble_eq_true rfl)⟩ (by omega) (fun v k1 hp_ => ?_) (fun _ _ hx => hx.elim)
    obtain ⟨rfl, rfl⟩ := hp_
    refine k_castO C ck_X3_35_5 dX3_gramIn_21 (by assumption) ?_
    refine kx_S C rfl ms_X3_208 dX3_gramIn_24 ((c_mGramNow M mok.1)) rfl rfl (Nat.le_of_ble_eq_true rfl) ⟨(Nat.le_of_ble_eq_true rfl), (Nat.le_of_ble_eq_true rfl)⟩ (by omega) (fun v h3 hp_ => ?_) (fun _ _ hx => hx.elim)
    obtain ⟨rfl, E3⟩ := hp_
    refine k_goto C dX3_gramIn_27 (tgt := 35) (by decide) ?_
    exact k_iret C E dX3_gramIn_35 (by omega) ⟨H1.ext E3, U1.trans (E3.upd [m]) (fun x hx => Or.inl hx), _, rfl, fun _ => rfl⟩
