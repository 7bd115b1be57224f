/-! the component's parser: a rule -/
set_option maxRecDepth 100000
/-- what a rule says -/
def riK (x : RI) : Int32 × Int32 × Int32 := (nI x.1.1, nI x.1.2.1, nI x.1.2.2)
def riC (x : RI) : Option ((Nat → Int32) → Bool) := x.2.map (fun c => c.1)
theorem pE_pos {n : Nat} {tp : Nat → Nat} {kd a e : Nat} {x : Option CI} (h : TK n tp a e) : Sum.elim (fun p => a ≤ p ∧ p ≤ n) (fun r => a + 1 ≤ r.2.1 ∧ TK n tp r.2.1 r.2.2) (pE n tp kd x a e) := by
  have hb := h.bd
  have t1 := tok_ge (tp := tp) hb.2
  have hT1 := TK.tok (tp := tp) hb.2
  have hb1 := hT1.bd
  have t2 := tok_ge (tp := tp) hb1.2
  have hT2 := TK.tok (tp := tp) hb1.2
  have hb2 := hT2.bd
  have t3 := tok_ge (tp := tp) hb2.2
  have hT3 := TK.tok (tp := tp) hb2.2
  unfold pE
  cases hk : nmK tp a e 6 3 with
  | none => exact ⟨Nat.le_refl _, h.1⟩
  | some d =>
    obtain ⟨hd, hl⟩ := nmK_lt (by decide) hk
    show Sum.elim _ _ (if d = 2 then _ else _)
    by_cases q : d = 2
    · rw [if_pos q]
      split
      · next w =>
        have := wrd_lt (n := n) (by decide) w
        exact ⟨by show a + 1 ≤ (tok n tp (tok n tp e).2).1; omega, hT2⟩
      · exact ⟨by show a ≤ (tok n tp e).1; omega, hT1.1⟩
    · rw [if_neg q]
      rcases pF_pos hT1 with h1 | ⟨v, h1, h2⟩
      · rw [h1]
        exact ⟨by show a ≤ (tok n tp e).1; omega, hT1.1⟩
      · rw [h1]
        show Sum.elim _ _ (if 99 < v then _ else _)
        split
        · exact ⟨by show a ≤ (tok n tp e).1; omega, hT1.1⟩
        · split
          · exact ⟨by show a + 1 ≤ (tok n tp (tok n tp (tok n tp e).2).2).1; omega, hT3⟩
          · exact ⟨by show a ≤ (tok n tp (tok n tp e).2).1; omega, hT2.1⟩
section KP5
variable {p : Program} {l : Launch} {e0 : Env} {R : Room} {s : State} {m : MethodId} {args : Array Value} {below : List Frame} {meth : Method} {c : Code} {Q : State → Prop} {D : va_G} {A : Nat → Prop} {nL ce sl : Nat} {g : St} {pc : Nat} {lv : List (Nat × Value)} {st : List Value} {cc : ByteArray} {K : Nat → Nat} {δ : Nat → ClassId} {sr ρ : Rf} {dy : va_W} {aK aV : Nat → Nat} {n a e : Nat} {tp : Nat → Nat}
/-- a rule was read -/
def RR (D : va_G) (A : Nat → Prop) (K : Nat → Nat) (δ : Nat → ClassId) (sr ρ : Rf) (dy : va_W) (g : St) (R : PRs RI) (v : Option Value) (t : State) : Prop := ∃ r ext b, R = .inr r ∧ v = some (.ref b) ∧ BW D vwCl A (kW K δ sr ρ (dy ++ ext)) (pS g r.2.1 r.2.2) t ∧ RuleOK ext b (riK r.1) (riC r.1)
def RF (D : va_G) (A : Nat → Prop) (K : Nat → Nat) (δ : Nat → ClassId) (sr ρ : Rf) (dy : va_W) (g : St) (R : PRs RI) (q : Addr) (E : String) (t : State) : Prop := ∃ x, R = .inl x ∧ FX D A K δ sr ρ dy g x q E t
set_option maxHeartbeats 4000000 in
theorem kx_rule (t : PT g n tp) {f : Nat} {R : PRs RI} (hT : TK n tp a e) (hR : pRu n tp f a e = some R) : CX l yX0_rule cX0_rule 5 (some (.object "HadForVoice$Rule")) (f + 15) (23 * f + 400) (cntP a R) (4 * cntP a R) D vwCl (kT δ) A aK aV (kW K δ (srK aK) ρ dy) [.ref (K 0)] (pS g a e) (RR D A K δ (srK aK) ρ dy g R) (RF D A K δ (srK aK) ρ dy g R) := by
  have hb := hT.bd
  have hn2 := t.1
  have t1 := tok_ge (tp := tp) hb.2
  have hT1 := TK.tok (tp := tp) hb.2
  have hb1 := hT1.bd
  unfold pRu at hR
  refine cx_intro (own := RX0) (lv0 := [(0, .ref (K 0))]) (by decide) rfl (Nat.le_of_ble_eq_true rfl) rfl ?_
  intro p e1 s m args below meth c Y hr hmn htab
  have X := Y.x
  refine tw_aload_n X dX0_rule_0 rfl 0 rfl ?_
  refine tw_aload_n X dX0_rule_1 rfl 0 rfl ?_
  refine kgX0_77_0 X dX0_rule_2 ?_
  refine tx_callV (n := 1) (b := K 0) (As := [.ref (K 8)]) (st := []) Y (kx_nameOf (b := 0) (mm := 6) (q0 := 46) t hT (by decide) (by decide) rfl (srK_0 aK)) kGX0_256 kI_X0_nameOf ⟨show 5 + 1 ≤ f + 15 by omega, show 8 + (3 + 11) + 115 ≤ 23 * f + 400 by omega⟩ ⟨Nat.zero_le _, Nat.zero_le _⟩ 0 rfl rfl rfl rfl (Nat.zero_le _) dX0_rule_5 (fun E x t h => h.elim) (fun v t1 h1 => ?_)
  cases hk : nmK tp a e 0 6 with
  | none =>
    rw [hk] at h1 hR
    have hR := Option.some.inj hR
    subst hR
    obtain ⟨rfl, hb1⟩ := h1
    refine TW.at ?_ hb1
    refine tw_istore_n (lv' := [(1, .int (-1)), (0, .ref (K 0))]) X dX0_rule_8 rfl (by decide) rfl ?_
    refine tw_iload_n X dX0_rule_9 rfl 0 rfl ?_
    refine tw_if_ge (a := ()) (b := ()) (z := ()) (tgt := 18) X dX0_rule_10 rfl (ite_self _) (fun z _ => absurd z (by decide)) (fun _ _ => ?_)
    refine tw_aload_n X dX0_rule_13 rfl 1 rfl ?_
    refine tp_fault Y ⟨show 2 ≤ f + 15 by omega, show 41 ≤ 23 * f + 400 by omega⟩ ⟨Nat.zero_le _, Nat.zero_le _⟩ (d2 := dX0_rule_14) dX0_rule_17 (fun t b => ?_)
    exact tx_out X htab (Nat.zero_le _) (Nat.zero_le _) (fun t2 e2 => ⟨a, rfl, FX.re e2 (FX.of b)⟩)
  | some kd =>
    obtain ⟨hkd, hal⟩ := nmK_lt (by decide) hk
    rw [hk] at h1 hR
    obtain ⟨rfl, hb1⟩ := h1
    refine TW.at ?_ hb1
    have tail : ∀ (ext : va_W) (v : Value) (x : Option CI) (a1 e1' : Nat), TK n tp a1 e1' → a ≤ a1 → R = pE n tp kd x a1 e1' → ((v = .null ∧ x = none) ∨ ∃ b c, v = .ref b ∧ x = some c ∧ Rep ext c.2.2.2 b c.1 ∧ c.2.2.2 ≤ 200) → TW p l e1 (romX (f + 15) (23 * f + 400) (cntP a R) (4 * cntP a R)) s m args below meth c (vx_MQ below (QO A (RR D A K δ (srK aK) ρ dy g R)) (XO A (RF D A K δ (srK aK) ρ dy g R)) args s (cntP a R) (4 * cntP a R) A) D vwCl A (kW K δ (srK aK) ρ (dy ++ ext)) 5 (a1 - a) (4 * (a1 - a)) (pS g a1 e1') 38 [(2, v), (1, .int (nI kd)), (0, .ref (K 0))] [] := by
      intro ext v x a1 e1' hTa haa hRE hv
      have hc1 : a1 - a ≤ cntP a R := by
        have := pE_pos (kd := kd) (x := x) hTa
        rw [← hRE] at this
        cases R with
        | inl y => have k1 : a1 ≤ y := this.1; show a1 - a ≤ y - a + 1; omega
        | inr r => have k1 : a1 + 1 ≤ r.2.1 := this.1; show a1 - a ≤ r.2.1 - a; omega
      have hba := hTa.bd
      have ta := tok_ge (tp := tp) hba.2
      have hTb := TK.tok (tp := tp) hba.2
      have hbb := hTb.bd
      refine tw_aload_n X dX0_rule_38 rfl 2 rfl ?_
      refine tw_aload_n X dX0_rule_39 rfl 2 rfl ?_
      refine kgX0_87_0 X dX0_rule_40 ?_
      refine tx_callV (n := 1) (b := K 0) (As := [.ref (K 9)]) (st := []) Y (kx_nameOf (b := 6) (mm := 3) (q0 := 47) t hTa (by decide) (by decide) rfl (srK_1 aK)) kGX0_256 kI_X0_nameOf ⟨show 5 + 1 ≤ f + 15 by omega, show 8 + (3 + 11) + 115 ≤ 23 * f + 400 by omega⟩ ⟨show a1 - a + 0 ≤ cntP a R by omega, show 4 * (a1 - a) + 0 ≤ 4 * cntP a R by omega⟩ 0 rfl rfl rfl rfl (Nat.zero_le _) dX0_rule_43 (fun E x t h => h.elim) (fun v1 t1 h1 => ?_)
      unfold pE at hRE
      cases hd : nmK tp a1 e1' 6 3 with
      | none =>
        rw [hd] at h1 hRE
        have hRE : R = .inl a1 := hRE
        obtain ⟨rfl, hb1⟩ := h1
        refine TW.at ?_ hb1
        refine tw_istore_n (lv' := [(3, .int (-1)), (2, v), (1, .int (nI kd)), (0, .ref (K 0))]) X dX0_rule_46 rfl (by decide) (by rcases hv with ⟨rfl, _⟩ | ⟨b, cI, rfl, _⟩ <;> rfl) ?_
        refine tw_iload_n X dX0_rule_47 rfl 0 rfl ?_
        refine tw_if_ge (a := ()) (b := ()) (z := ()) (tgt := 56) X dX0_rule_48 rfl (ite_self _) (fun z _ => absurd z (by decide)) (fun _ _ => ?_)
        refine tw_aload_n X dX0_rule_51 rfl 3 rfl ?_
        refine tp_fault Y ⟨show 2 ≤ f + 15 by omega, show 41 ≤ 23 * f + 400 by omega⟩ ⟨show a1 - a + 0 ≤ cntP a R by omega, show 4 * (a1 - a) + 0 ≤ 4 * cntP a R by omega⟩ (d2 := dX0_rule_52) dX0_rule_55 (fun t b => ?_)
        exact tx_out X htab (show a1 - a + 0 ≤ cntP a R by omega) (show 4 * (a1 - a) + 0 ≤ 4 * cntP a R by omega) (fun t2 e2 => ⟨a1, hRE, FX.up e2 (FX.of b)⟩)
      | some d =>
        obtain ⟨hd3, hal1⟩ := nmK_lt (by decide) hd
        rw [hd] at h1 hRE
        obtain ⟨rfl, hb1⟩ := h1
        refine TW.at ?_ hb1
        refine tw_istore_n (lv' := [(3, .int (nI d)), (2, v), (1, .int (nI kd)), (0, .ref (K 0))]) X dX0_rule_46 rfl (by decide) (by rcases hv with ⟨rfl, _⟩ | ⟨b, cI, rfl, _⟩ <;> rfl) ?_
        refine tw_iload_n X dX0_rule_47 rfl 0 rfl ?_
        refine tw_if_ge (a := ()) (b := ()) (z := ()) (tgt := 56) X dX0_rule_48 rfl (ite_self _) (fun _ _ => ?_) (fun z _ => absurd (nI_le (a := 0) (Nat.zero_le _) (by omega)) z)
        have fin : ∀ (mm a2 e2 : Nat), TK n tp a2 e2 → a1 ≤ a2 → R = (if wrd tp a2 e2 20 = true then .inr (((kd, d, mm), x), tok n tp e2) else .inl a2) → TW p l e1 (romX (f + 15) (23 * f + 400) (cntP a R) (4 * cntP a R)) s m args below meth c (vx_MQ below (QO A (RR D A K δ (srK aK) ρ dy g R)) (XO A (RF D A K δ (srK aK) ρ dy g R)) args s (cntP a R) (4 * cntP a R) A) D vwCl A (kW K δ (srK aK) ρ (dy ++ ext)) 5 (a1 - a) (4 * (a1 - a)) (pS g a2 e2) 71 [(3, .int (nI d)), (2, v), (1, .int (nI kd)), (0, .ref (K 0))] [.int (nI mm)] := by
          intro mm a2 e2 hT2 ha2 hRe
          have hb2 := hT2.bd
          have t2 := tok_ge (tp := tp) hb2.2
          refine tw_istore (lv' := [(4, .int (nI mm)), (3, .int (nI d)), (2, v), (1, .int (nI kd)), (0, .ref (K 0))]) X dX0_rule_71 (by decide) rfl ?_
          refine tw_aload_n X dX0_rule_73 rfl 4 rfl ?_
          refine tw_ldcwS X (Y.n.2.1 20 (by decide)) dX0_rule_74 ?_
          refine tx_callV (n := 1) (b := K 0) (As := [.ref (aK 20)]) (st := []) Y (kx_want t hT2 (by decide)) kGX0_284 kI_X0_want ⟨show 6 + 1 ≤ f + 15 by omega, show 8 + (2 + 11) + 140 ≤ 23 * f + 400 by omega⟩ ⟨show a1 - a + 0 ≤ cntP a R by omega, show 4 * (a1 - a) + 0 ≤ 4 * cntP a R by omega⟩ 0 rfl rfl rfl rfl (Nat.zero_le _) dX0_rule_77 (fun E y t h4 => ?_) (fun v2 t2 h4 => ?_)
          · rw [if_neg (by rw [h4.1]; decide)] at hRe
            exact tx_out X htab (show a1 - a + 0 ≤ cntP a R by omega) (show 4 * (a1 - a) + 0 ≤ 4 * cntP a R by omega) (fun t3 e3 => ⟨a2, hRe, FX.up e3 h4.2⟩)
          · obtain ⟨w3, rfl, hb4⟩ := h4
            rw [if_pos w3] at hRe
            have hw3 := wrd_lt (n := n) (by decide) w3
            have hc2 : a1 - a + 1 ≤ cntP a R := by
              rw [hRe]
              show a1 - a + 1 ≤ (tok n tp e2).1 - a
              omega
            refine TW.at ?_ hb4
            refine tk_new (ci := 17) (fs := [.int 0, .int 0, .int 0, .null]) X in_X19 tyX19 tyX19_ok q714 q902 q144 rfl (fun j hj => by match j, hj with | 0, _ => rfl | 1, _ => rfl | 2, _ => rfl | 3, _ => rfl) (show a1 - a + 0 + 1 ≤ cntP a R by omega) (show 4 * (a1 - a) + 0 + 4 ≤ 4 * cntP a R by omega) dX0_rule_80 (fun q => ?_)
            refine tw_dup X dX0_rule_83 rfl ?_
            refine tw_iload_n X dX0_rule_84 rfl 3 rfl ?_
            rcases hv with ⟨rfl, hx⟩ | ⟨b, cI, rfl, hx, hrep, hdp⟩
            · refine tw_aload_nN X dX0_rule_85 rfl 2 rfl ?_
              refine tw_iload_n X dX0_rule_86 rfl 1 rfl ?_
              refine tw_iload X dX0_rule_87 0 rfl ?_
              refine tx_callI (n := 4) (b := q) (As := [.int (nI kd), .null, .int (nI d), .int (nI mm)]) (st := [.ref q]) Y (kx_iRuleN (ext := []) q (nI kd) (nI d) (nI mm)) (lw_meth q905) q144 q903 q904 rfl (by decide +kernel) ⟨show 2 + 1 ≤ f + 15 by omega, show 8 + (5 + 11) + 50 ≤ 23 * f + 400 by omega⟩ ⟨show a1 - a + 0 + 1 + 0 ≤ cntP a R by omega, show 4 * (a1 - a) + 0 + 4 + 0 ≤ 4 * cntP a R by omega⟩ rfl rfl (Nat.le_of_ble_eq_true rfl) dX0_rule_89 (fun E x t h => h.elim) (fun v t h5 => ?_)
              obtain ⟨rfl, hb5⟩ := h5
              rw [List.append_assoc] at hb5
              refine TW.at ?_ hb5
              refine tx_aret X hr (Or.inl ⟨_, rfl⟩) (Or.inr ⟨_, rfl⟩) (show a1 - a + 0 + 1 + 0 ≤ cntP a R by omega) (show 4 * (a1 - a) + 0 + 4 + 0 ≤ 4 * cntP a R by omega) (fun t b1 => ⟨_, _, q, hRe, rfl, b1, ?_⟩) dX0_rule_92
              refine Or.inl ⟨?_, ?_⟩
              · rw [hx]; rfl
              · show (q, (.inr (17, [.int (nI kd), .int (nI d), .int (nI mm), .null]) : va_E)) ∈ _
                simp
            · refine tw_aload_n X dX0_rule_85 rfl 2 rfl ?_
              refine tw_iload_n X dX0_rule_86 rfl 1 rfl ?_
              refine tw_iload X dX0_rule_87 0 rfl ?_
              refine tx_callI (n := 4) (b := q) (As := [.int (nI kd), .ref b, .int (nI d), .int (nI mm)]) (st := [.ref q]) Y (kx_iRuleR (ext := []) q b (nI kd) (nI d) (nI mm)) (lw_meth q905) q144 q903 q904 rfl (by decide +kernel) ⟨show 2 + 1 ≤ f + 15 by omega, show 8 + (5 + 11) + 50 ≤ 23 * f + 400 by omega⟩ ⟨show a1 - a + 0 + 1 + 0 ≤ cntP a R by omega, show 4 * (a1 - a) + 0 + 4 + 0 ≤ 4 * cntP a R by omega⟩ rfl rfl (Nat.le_of_ble_eq_true rfl) dX0_rule_89 (fun E x t h => h.elim) (fun v t h5 => ?_)
              obtain ⟨rfl, hb5⟩ := h5
              rw [List.append_assoc] at hb5
              refine TW.at ?_ hb5
              refine tx_aret X hr (Or.inl ⟨_, rfl⟩) (Or.inr ⟨_, rfl⟩) (show a1 - a + 0 + 1 + 0 ≤ cntP a R by omega) (show 4 * (a1 - a) + 0 + 4 + 0 ≤ 4 * cntP a R by omega) (fun t b1 => ⟨_, _, q, hRe, rfl, b1, ?_⟩) dX0_rule_92
              refine Or.inr ⟨cI.1, b, ?_, ?_, hrep.mono (fun x hx => by simp [hx]) (by unfold cDeep; omega)⟩
              · rw [hx]; rfl
              · show (q, (.inr (17, [.int (nI kd), .int (nI d), .int (nI mm), .ref b]) : va_E)) ∈ _
                simp
        refine tw_iload_n X dX0_rule_56 rfl 0 rfl ?_
        refine tw_iconst (v := 2) X dX0_rule_57 rfl ?_
        refine tw_icmp_ne (a := ()) (b := ()) (z := ()) (tgt := 65) X dX0_rule_58 rfl (ite_self _) (fun q _ => ?_) (fun q _ => ?_)
        · rw [show (2 : Int32) = nI 2 from rfl, nI_eq (by omega) (by decide)] at q
          refine tw_iconst (v := 0) X dX0_rule_61 rfl ?_
          refine tw_goto (tgt := 71) X dX0_rule_62 rfl ?_
          exact fin 0 _ _ hTb (by omega) (hRE.trans (if_pos q))
        · rw [show (2 : Int32) = nI 2 from rfl, nI_eq (by omega) (by decide)] at q
          have hRE : R = _ := hRE.trans (if_neg q)
          refine tw_aload_n X dX0_rule_65 rfl 3 rfl ?_
          refine tw_bipush (v := 99) X dX0_rule_66 rfl ?_
          refine tx_callV (n := 1) (b := K 0) (As := [.int (nI 99)]) (st := []) Y (kx_upTo t hTb 99 (by decide)) kGX0_314 kI_X0_upTo ⟨show 3 + 1 ≤ f + 15 by omega, show 8 + (4 + 11) + 80 ≤ 23 * f + 400 by omega⟩ ⟨show a1 - a + 0 ≤ cntP a R by omega, show 4 * (a1 - a) + 0 ≤ 4 * cntP a R by omega⟩ 0 rfl rfl rfl rfl (Nat.zero_le _) dX0_rule_68 (fun E y t h4 => ?_) (fun v2 t2 h4 => ?_)
          · refine tx_out X htab (show a1 - a + 0 ≤ cntP a R by omega) (show 4 * (a1 - a) + 0 ≤ 4 * cntP a R by omega) (fun t3 e3 => ⟨(tok n tp e1').1, ?_, FX.up e3 h4.2⟩)
            rcases h4.1 with h5 | ⟨r, h5, h6⟩
            · rw [h5] at hRE
              exact hRE
            · rw [h5] at hRE
              rw [hRE]
              exact if_pos h6
          · obtain ⟨r, h5, h6, rfl, hb4⟩ := h4
            rw [h5] at hRE
            have hRE : R = _ := hRE.trans (if_neg h6)
            have hTr : TK n tp r.2.1 r.2.2 ∧ a1 ≤ r.2.1 := by
              rcases pF_pos hTb with h7 | ⟨v, h7, h8⟩
              · rw [h7] at h5
                cases h5
              · rw [h7] at h5
                cases h5
                have := tok_ge (tp := tp) hTb.bd.2
                exact ⟨TK.tok hTb.bd.2, by show a1 ≤ (tok n tp (tok n tp e1').2).1; omega⟩
            refine TW.at ?_ hb4
            exact fin r.1 _ _ hTr.1 hTr.2 hRE
    have hR : (if wrd tp (tok n tp e).1 (tok n tp e).2 14 = true then pB (pC n tp f 3 0 c0I (tok n tp (tok n tp e).2).1 (tok n tp (tok n tp e).2).2) (fun r => some (pE n tp kd (some r.1) r.2.1 r.2.2)) else some (pE n tp kd none (tok n tp e).1 (tok n tp e).2)) = some R := hR
    refine tw_istore_n (lv' := [(1, .int (nI kd)), (0, .ref (K 0))]) X dX0_rule_8 rfl (by decide) rfl ?_
    refine tw_iload_n X dX0_rule_9 rfl 0 rfl ?_
    refine tw_if_ge (a := ()) (b := ()) (z := ()) (tgt := 18) X dX0_rule_10 rfl (ite_self _) (fun _ _ => ?_) (fun z _ => absurd (nI_le (a := 0) (Nat.zero_le _) (by omega)) z)
    refine tw_aload_n X dX0_rule_18 rfl 1 rfl ?_
    refine tw_ldcwS X (Y.n.2.1 14 (by decide)) dX0_rule_19 ?_
    refine tx_callV (n := 1) (b := K 0) (As := [.ref (aK 14)]) (st := []) Y (kx_goesOn t hT1 (by decide)) kGX0_249 kI_X0_goesOn ⟨show 5 + 1 ≤ f + 15 by omega, show 8 + (2 + 11) + 112 ≤ 23 * f + 400 by omega⟩ ⟨Nat.zero_le _, Nat.zero_le _⟩ 0 rfl rfl rfl rfl (Nat.zero_le _) dX0_rule_22 (fun E x t h => h.elim) (fun v t1 h1 => ?_)
    obtain ⟨rfl, hb2⟩ := h1
    refine TW.at ?_ hb2
    by_cases w : wrd tp (tok n tp e).1 (tok n tp e).2 14 = true
    · rw [if_pos w] at hR
      have hT2 := TK.tok (tp := tp) hT1.bd.2
      have t2 := tok_ge (tp := tp) hT1.bd.2
      have hbb2 := hT2.bd
      have hbb1 := hT1.bd
      rw [show gW g n tp (tok n tp e).1 (tok n tp e).2 (wrd tp (tok n tp e).1 (tok n tp e).2 14) = pS g (tok n tp (tok n tp e).2).1 (tok n tp (tok n tp e).2).2 by rw [w]; rfl, w]
      refine tw_if_eq (a := ()) (b := ()) (z := ()) (tgt := 36) X dX0_rule_25 rfl (ite_self _) (fun z _ => absurd z (by decide)) (fun _ _ => ?_)
      refine tw_aload_n X dX0_rule_28 rfl 1 rfl ?_
      refine tw_iconst (v := 0) X dX0_rule_29 rfl ?_
      rcases pB_some hR with ⟨y, h1, h2⟩ | ⟨r, h1, h2⟩
      · have k1 : (tok n tp (tok n tp e).2).1 ≤ y := (pC_pos f 3 0 c0I _ _ _ hT2 h1).1
        subst h2
        have hroom : cntP (tok n tp (tok n tp e).2).1 (.inl y : PRs CI) ≤ cntP a (.inl y : PRs RI) := by show y - _ + 1 ≤ y - a + 1; omega
        refine tx_callV (n := 1) (b := K 0) (As := [.int (nI 0)]) (st := []) Y ((kx_conds t f f (Nat.le_refl _)).2.2 0 c0I _ _ _ _ (by omega) hT2 h1) kGX0_279 kI_X0_cond ⟨show f + 10 + 1 ≤ f + 15 by omega, show 8 + (3 + 11) + (23 * f + 200) ≤ 23 * f + 400 by omega⟩ ⟨show 0 + 0 + 0 + cntP (tok n tp (tok n tp e).2).1 (.inl y : PRs CI) ≤ cntP a (.inl y : PRs RI) by omega, show 0 + 0 + 0 + 4 * cntP (tok n tp (tok n tp e).2).1 (.inl y : PRs CI) ≤ 4 * cntP a (.inl y : PRs RI) by omega⟩ 0 rfl rfl rfl rfl (Nat.zero_le _) dX0_rule_30 (fun E y t h2 => ?_) (fun v t2 h2 => ?_)
        · obtain ⟨z, e2, hx⟩ := h2
          cases e2
          exact tx_out X htab (by omega) (by omega) (fun t3 e3 => ⟨_, rfl, FX.re e3 hx⟩)
        · obtain ⟨r, ext2, b2, e2, _⟩ := h2
          cases e2
      · obtain ⟨k1, k2, k3⟩ := pC_pos f 3 0 c0I _ _ _ hT2 h1
        have k1 : (tok n tp (tok n tp e).2).1 + 1 ≤ r.2.1 := k1
        have k3 : r.1.2.2.2 ≤ 0 + (r.2.1 - (tok n tp (tok n tp e).2).1) := k3
        have kb := k2.bd
        have e5 : cntP (tok n tp (tok n tp e).2).1 (.inr r : PRs CI) = r.2.1 - (tok n tp (tok n tp e).2).1 := rfl
        have h2 := Option.some.inj h2
        have hroom : r.2.1 - a ≤ cntP a R := by
          have := pE_pos (kd := kd) (x := some r.1) k2
          rw [h2] at this
          cases R with
          | inl y => have j1 : r.2.1 ≤ y := this.1; show r.2.1 - a ≤ y - a + 1; omega
          | inr r' => have j1 : r.2.1 + 1 ≤ r'.2.1 := this.1; show r.2.1 - a ≤ r'.2.1 - a; omega
        refine tx_callV (n := 1) (b := K 0) (As := [.int (nI 0)]) (st := []) Y ((kx_conds t f f (Nat.le_refl _)).2.2 0 c0I _ _ _ _ (by omega) hT2 h1) kGX0_279 kI_X0_cond ⟨show f + 10 + 1 ≤ f + 15 by omega, show 8 + (3 + 11) + (23 * f + 200) ≤ 23 * f + 400 by omega⟩ ⟨show 0 + 0 + 0 + cntP (tok n tp (tok n tp e).2).1 (.inr r : PRs CI) ≤ cntP a R by omega, show 0 + 0 + 0 + 4 * cntP (tok n tp (tok n tp e).2).1 (.inr r : PRs CI) ≤ 4 * cntP a R by omega⟩ 0 rfl rfl rfl rfl (Nat.zero_le _) dX0_rule_30 (fun E y t h2 => ?_) (fun v t2 h3 => ?_)
        · obtain ⟨z, e2, hx⟩ := h2
          cases e2
        · obtain ⟨r', ext2, b2, e2, rfl, hb3, hrep2⟩ := h3
          cases e2
          refine TW.at ?_ hb3
          refine tw_goto (tgt := 37) X dX0_rule_33 rfl ?_
          refine tw_astore_n (lv' := [(2, .ref b2), (1, .int (nI kd)), (0, .ref (K 0))]) X dX0_rule_37 rfl (by decide) rfl ?_
          refine tx_widen (k := r.2.1 - a) (n := 4 * (r.2.1 - a)) (by omega) (by omega) ?_
          exact tail ext2 (.ref b2) (some r.1) r.2.1 r.2.2 k2 (by omega) h2.symm (Or.inr ⟨b2, r.1, rfl, rfl, hrep2, by omega⟩)
    · rw [if_neg w] at hR
      have w0 : wrd tp (tok n tp e).1 (tok n tp e).2 14 = false := by simpa using w
      rw [show gW g n tp (tok n tp e).1 (tok n tp e).2 (wrd tp (tok n tp e).1 (tok n tp e).2 14) = pS g (tok n tp e).1 (tok n tp e).2 by rw [w0]; rfl, w0]
      refine tw_if_eq (a := ()) (b := ()) (z := ()) (tgt := 36) X dX0_rule_25 rfl (ite_self _) (fun _ _ => ?_) (fun z _ => absurd rfl z)
      refine tw_null X dX0_rule_36 ?_
      refine tw_astore_nN (lv' := [(2, .null), (1, .int (nI kd)), (0, .ref (K 0))]) X dX0_rule_37 rfl (by decide) rfl ?_
      have := tail [] .null none _ _ hT1 (by omega) (Option.some.inj hR).symm (Or.inl ⟨rfl, rfl⟩)
      rw [List.append_nil] at this
      exact tx_widen (by omega) (by omega) this
end KP5
