/-! the component's parser: rules() -/
set_option maxRecDepth 100000
/-- rows of rules in dy -/
def RwOK (ext : va_W) (ads : List Nat) (o : List RI) : Prop := ads.length = o.length ∧ ∀ (i b : Nat) (x : RI), ads[i]? = some b → o[i]? = some x → RuleOK ext b (riK x) (riC x)
theorem RwOK.mono {d1 d2 : va_W} {ads : List Nat} {o : List RI} (hd : ∀ x ∈ d1, x ∈ d2) (h : RwOK d1 ads o) : RwOK d2 ads o := ⟨h.1, fun i b x h1 h2 => (h.2 i b x h1 h2).mono hd⟩
theorem RwOK.add {d1 d2 : va_W} {ads : List Nat} {o : List RI} {b : Nat} {x : RI} (h : RwOK d1 ads o) (h2 : RuleOK d2 b (riK x) (riC x)) : RwOK (d1 ++ d2) (ads ++ [b]) (o ++ [x]) := by
  refine ⟨by simp [h.1], fun i b' x' h3 h4 => ?_⟩
  by_cases q : i < ads.length
  · rw [List.getElem?_append_left q] at h3
    rw [List.getElem?_append_left (by rw [← h.1]; exact q)] at h4
    exact (h.2 i b' x' h3 h4).mono (fun y hy => List.mem_append_left _ hy)
  · have e1 : i = ads.length := by
      have := (List.getElem?_eq_some_iff.mp h3).1
      simp at this
      omega
    have e2 : i = o.length := by rw [← h.1]; exact e1
    rw [e1, List.getElem?_append_right (Nat.le_refl _), Nat.sub_self] at h3
    rw [e2, List.getElem?_append_right (Nat.le_refl _), Nat.sub_self] at h4
    cases h3
    cases h4
    exact h2.mono (fun y hy => List.mem_append_right _ hy)
theorem up_ads {ads : List Nat} {b : Nat} : va_up (fun i => ads[i]?) ads.length (some b) = fun i => (ads ++ [b])[i]? := by
  funext i
  show (if i = ads.length then some b else ads[i]?) = _
  by_cases q : i = ads.length
  · subst q
    rw [if_pos rfl]
    simp
  · rw [if_neg q]
    by_cases q2 : i < ads.length
    · rw [List.getElem?_append_left q2]
    · rw [List.getElem?_eq_none (by omega), List.getElem?_eq_none (by simp; omega)]
section KP7
variable {p : Program} {l : Launch} {e0 : Env} {R : Room} {s : State} {m : MethodId} {args : Array Value} {below : List Frame} {meth : Method} {c : Code} {Q : State → Prop} {D : va_G} {A : Nat → Prop} {nL ce sl : Nat} {g : St} {pc : Nat} {lv : List (Nat × Value)} {st : List Value} {cc : ByteArray} {own : String} {K : Nat → Nat} {δ : Nat → ClassId} {sr ρ : Rf} {dy ext : va_W} {aK aV : Nat → Nat} {n a e : Nat} {tp : Nat → Nat}
def AR (D : va_G) (A : Nat → Prop) (K : Nat → Nat) (δ : Nat → ClassId) (sr ρ : Rf) (dy : va_W) (g : St) (R : Nat ⊕ List RI) (v : Option Value) (t : State) : Prop := ∃ o ext q ads a e, R = .inr o ∧ v = some (.ref q) ∧ BW D vwCl A (kW K δ sr ρ (dy ++ ext)) (pS g a e) t ∧ (q, (.inl (δ 3, o.length, .inr (.inr (.inr (.inr (fun i => some ((ads[i]?).getD 0)))))) : va_E)) ∈ ext ∧ RwOK ext ads o ∧ o.length ≤ 8
def AF (D : va_G) (A : Nat → Prop) (K : Nat → Nat) (δ : Nat → ClassId) (sr ρ : Rf) (dy : va_W) (g : St) (R : Nat ⊕ List RI) (q : Addr) (E : String) (t : State) : Prop := ∃ x, R = .inl x ∧ FX D A K δ sr ρ dy g x q E t
theorem pRu_pos {f : Nat} {R : PRs RI} (h : TK n tp a e) (hR : pRu n tp f a e = some R) : Sum.elim (fun p => a ≤ p ∧ p ≤ n) (fun r => a + 1 ≤ r.2.1 ∧ TK n tp r.2.1 r.2.2) R := by
  have hb := h.bd
  have t1 := tok_ge (tp := tp) hb.2
  have hT1 := TK.tok (tp := tp) hb.2
  have hb1 := hT1.bd
  have t2 := tok_ge (tp := tp) hb1.2
  have hT2 := TK.tok (tp := tp) hb1.2
  unfold pRu at hR
  have fin : ∀ (kd : Nat) (x : Option CI) (a1 e1 : Nat), a ≤ a1 → TK n tp a1 e1 → some (pE n tp kd x a1 e1) = some R → Sum.elim (fun p => a ≤ p ∧ p ≤ n) (fun r => a + 1 ≤ r.2.1 ∧ TK n tp r.2.1 r.2.2) R := by
    intro kd x a1 e1 h1 h2 h3
    have := pE_pos (kd := kd) (x := x) h2
    rw [Option.some.inj h3] at this
    cases R with
    | inl y => have k1 : a1 ≤ y := this.1; exact ⟨by omega, this.2⟩
    | inr r => have k1 : a1 + 1 ≤ r.2.1 := this.1; exact ⟨by omega, this.2⟩
  cases hk : nmK tp a e 0 6 with
  | none =>
    rw [hk] at hR
    cases hR
    exact ⟨Nat.le_refl _, h.1⟩
  | some kd =>
    rw [hk] at hR
    have hR : (if wrd tp (tok n tp e).1 (tok n tp e).2 14 = true then pB (pC n tp f 3 0 c0I (tok n tp (tok n tp e).2).1 (tok n tp (tok n tp e).2).2) (fun r => some (pE n tp kd (some r.1) r.2.1 r.2.2)) else some (pE n tp kd none (tok n tp e).1 (tok n tp e).2)) = some R := hR
    by_cases w : wrd tp (tok n tp e).1 (tok n tp e).2 14 = true
    · rw [if_pos w] at hR
      rcases pB_some hR with ⟨y, h1, h2⟩ | ⟨r, h1, h2⟩
      · have := pC_pos f 3 0 c0I _ _ _ hT2 h1
        subst h2
        have k1 : (tok n tp (tok n tp e).2).1 ≤ y := this.1
        exact ⟨by omega, this.2⟩
      · obtain ⟨k1, k2, _⟩ := pC_pos f 3 0 c0I _ _ _ hT2 h1
        have k1 : (tok n tp (tok n tp e).2).1 + 1 ≤ r.2.1 := k1
        exact fin kd (some r.1) r.2.1 r.2.2 (by omega) k2 h2
    · rw [if_neg w] at hR
      exact fin kd none _ _ (by omega) hT1 hR
set_option maxHeartbeats 4000000 in
theorem kx_allRules (t : PT g n tp) {f M : Nat} {R : Nat ⊕ List RI} (hR : pRs n tp f M [] (tok n tp 0).1 (tok n tp 0).2 = some R) : CX l yX0_allRules cX0_allRules 4 (some (.array (.object "HadForVoice$Rule"))) (f + 16) (23 * f + 430) 210 850 D vwCl (kT δ) A aK aV (kW K δ (srK aK) ρ dy) [.ref (K 0)] g (AR D A K δ (srK aK) ρ dy g R) (AF D A K δ (srK aK) ρ dy g R) := by
  have hn2 := t.1
  refine cx_intro (own := RX0) (lv0 := [(0, .ref (K 0))]) (by decide) rfl (Nat.le_of_ble_eq_true rfl) rfl ?_
  intro p e1 s m args below meth c Y hr hmn htab
  have X := Y.x
  refine tw_bipush (v := 8) X dX0_allRules_0 rfl ?_
  refine tk_newq (N' := 8) (t0 := 3) (C := "HadForVoice$Rule") X q714 X.hN.2.1 rfl (by decide) (Nat.le_of_ble_eq_true rfl) (Nat.le_of_ble_eq_true rfl) dX0_allRules_2 (fun q => ?_)
  refine tw_astore_n (lv' := [(1, .ref q), (0, .ref (K 0))]) X dX0_allRules_5 rfl (by decide) rfl ?_
  refine tw_iconst (v := 0) X dX0_allRules_6 rfl ?_
  refine tw_istore_n (lv' := [(2, .int (nI 0)), (1, .ref q), (0, .ref (K 0))]) X dX0_allRules_7 rfl (by decide) rfl ?_
  refine tw_aload_n X dX0_allRules_8 rfl 2 rfl ?_
  refine tw_iconst (v := 0) X dX0_allRules_9 rfl ?_
  obtain ⟨a0, ha0⟩ := nI_surj (g 0 12)
  have eS : up2 g 0 13 0 = pS g a0 0 := by
    unfold pS
    refine st_ext fun b i => ?_
    by_cases hb : b = 0
    · subst hb
      by_cases h3 : i = 13
      · subst h3
        rw [up2_row, pk_us, up2_row, pk_us]
        rfl
      · rw [up2_row, pk_un h3, up2_row, pk_un h3, up2_row]
        by_cases h2 : i = 12
        · subst h2
          rw [pk_us, ha0]
        · rw [pk_un h2]
    · rw [up2_o hb, up2_o hb, up2_o hb]
  refine kpX0_222_0 (g' := pS g a0 0) X (by rw [← eS]; rfl) dX0_allRules_10 ?_
  refine tw_aload_n X dX0_allRules_13 rfl 2 rfl ?_
  refine tp_next X t (Nat.zero_le _) ⟨show 2 ≤ f + 16 by omega, show 43 ≤ 23 * f + 430 by omega⟩ ⟨Nat.le_of_ble_eq_true rfl, Nat.le_of_ble_eq_true rfl⟩ (Nat.zero_le _) dX0_allRules_14 ?_
  have loop : ∀ (M : Nat) (acc : List RI) (ext : va_W) (ads : List Nat) (a e : Nat), TK n tp a e → acc.length ≤ 8 → pRs n tp f M acc a e = some R → RwOK ext ads acc → TW p l e1 (romX (f + 16) (23 * f + 430) 210 850) s m args below meth c (vx_MQ below (QO A (AR D A K δ (srK aK) ρ dy g R)) (XO A (AF D A K δ (srK aK) ρ dy g R)) args s 210 850 A) D vwCl A (kW K δ (srK aK) ρ (dy ++ (q, .inl (δ 3, 8, .inr (.inr (.inr (.inr (fun i => ads[i]?)))))) :: ext)) 4 (1 + a) (8 + 4 * a) (pS g a e) 17 [(2, .int (nI acc.length)), (1, .ref q), (0, .ref (K 0))] [] := by
    intro M
    induction M with
    | zero =>
      intro acc ext ads a e _ _ h
      cases h
    | succ M ih =>
      intro acc ext ads a e hT h8 h hok
      have hb := hT.bd
      unfold pRs at h
      refine tw_aload_n X dX0_allRules_17 rfl 2 rfl ?_
      refine kgX0_225_0 X dX0_allRules_18 ?_
      refine tw_aload_n X dX0_allRules_21 rfl 2 rfl ?_
      refine kgX0_219_0 X dX0_allRules_22 ?_
      rw [pS_a, pS_0 (by decide) (by decide), t.2.1]
      refine tw_icmp_ge (a := ()) (b := ()) (z := ()) (tgt := 52) X dX0_allRules_25 rfl (ite_self _) (fun q1 _ => ?_) (fun q1 _ => ?_)
      · rw [nI_leI (by omega) (by omega)] at q1
        rw [if_neg (by omega)] at h
        have h := Option.some.inj h
        refine tw_iload_n X dX0_allRules_52 rfl 0 rfl ?_
        refine tk_newq (N' := acc.length) (t0 := 3) (C := "HadForVoice$Rule") X q714 X.hN.2.1 rfl (by omega) (show 1 + a + 1 ≤ 210 by omega) (show 8 + 4 * a + acc.length ≤ 850 by omega) dX0_allRules_53 (fun q2 => ?_)
        refine tw_astore_n (lv' := [(3, .ref q2), (2, .int (nI acc.length)), (1, .ref q), (0, .ref (K 0))]) X dX0_allRules_56 rfl (by decide) rfl ?_
        refine tw_aload_n X dX0_allRules_57 rfl 2 rfl ?_
        refine tw_iconst (v := 0) X dX0_allRules_58 rfl ?_
        refine tw_aload_n X dX0_allRules_59 rfl 0 rfl ?_
        refine tw_iconst (v := 0) X dX0_allRules_60 rfl ?_
        refine tw_iload_n X dX0_allRules_61 rfl 1 rfl ?_
        refine tk_copyR X (fun i hi => ?_) h8 (by decide) ⟨show 1 ≤ f + 16 by omega, show 40 ≤ 23 * f + 430 by omega⟩ (Nat.zero_le _) dX0_allRules_62 ?_
        · have hi2 : i < ads.length := by rw [hok.1]; exact hi
          obtain ⟨fs, hfs⟩ := (hok.2 i ads[i] acc[i] (List.getElem?_eq_getElem hi2) (List.getElem?_eq_getElem hi)).cellX
          exact ⟨ads[i], fs, List.getElem?_eq_getElem hi2, hfs⟩
        refine tw_aload_n X dX0_allRules_65 rfl 0 rfl ?_
        refine tx_aret X hr (Or.inr ⟨_, rfl⟩) (Or.inr ⟨_, rfl⟩) (show 1 + a + 1 ≤ 210 by omega) (show 8 + 4 * a + acc.length ≤ 850 by omega) (fun t b1 => ?_) dX0_allRules_66
        rw [List.append_assoc] at b1
        exact ⟨acc, _, q2, ads, a, e, h.symm, rfl, b1, by simp, hok.mono (fun x hx => by simp [hx]), h8⟩
      · rw [nI_leI (by omega) (by omega)] at q1
        rw [if_pos (by omega)] at h
        refine tw_iload_n X dX0_allRules_28 rfl 0 rfl ?_
        refine tw_bipush (v := 8) X dX0_allRules_29 rfl ?_
        refine tw_icmp_ne (a := ()) (b := ()) (z := ()) (tgt := 39) X dX0_allRules_31 rfl (ite_self _) (fun q2 _ => ?_) (fun q2 _ => ?_)
        · rw [show (8 : Int32) = nI 8 from rfl, nI_eq (by omega) (by decide)] at q2
          rw [if_pos q2] at h
          have h := Option.some.inj h
          refine tw_aload_n X dX0_allRules_34 rfl 2 rfl ?_
          refine tp_fault Y ⟨show 2 ≤ f + 16 by omega, show 41 ≤ 23 * f + 430 by omega⟩ ⟨show 1 + a ≤ 210 by omega, show 8 + 4 * a ≤ 850 by omega⟩ (d2 := dX0_allRules_35) dX0_allRules_38 (fun t b => ?_)
          exact tx_out X htab (show 1 + a ≤ 210 by omega) (show 8 + 4 * a ≤ 850 by omega) (fun t2 e2 => ⟨a, h.symm, FX.up e2 (FX.of b)⟩)
        · rw [show (8 : Int32) = nI 8 from rfl, nI_eq (by omega) (by decide)] at q2
          rw [if_neg q2] at h
          refine tw_aload_n X dX0_allRules_39 rfl 1 rfl ?_
          refine tw_iload_n X dX0_allRules_40 rfl 0 rfl ?_
          refine tw_aload_n X dX0_allRules_41 rfl 2 rfl ?_
          cases hu : pRu n tp f a e with
          | none =>
            rw [hu] at h
            cases h
          | some U =>
            rw [hu] at h
            have hup := pRu_pos hT hu
            have hcU : 1 + a + cntP a U ≤ 205 := by
              cases U with
              | inl y => have k1 : a ≤ y ∧ y ≤ n := hup; show 1 + a + (y - a + 1) ≤ 205; omega
              | inr r => have k1 : a + 1 ≤ r.2.1 := hup.1; have k2 := hup.2.bd; have k3 := hup.2.1; show 1 + a + (r.2.1 - a) ≤ 205; omega
            refine tx_callV (n := 0) (b := K 0) (As := []) (st := [.int (nI acc.length), .ref q]) Y (kx_rule t hT hu) kGX0_324 kI_X0_rule ⟨show f + 15 + 1 ≤ f + 16 by omega, show 8 + (5 + 11) + (23 * f + 400) ≤ 23 * f + 430 by omega⟩ ⟨show 1 + a + cntP a U ≤ 210 by omega, show 8 + 4 * a + 4 * cntP a U ≤ 850 by omega⟩ 0 rfl rfl rfl rfl (Nat.le_of_ble_eq_true rfl) dX0_allRules_42 (fun E y t h4 => ?_) (fun v2 t2 h4 => ?_)
            · obtain ⟨z, e2, hx⟩ := h4
              subst e2
              have h := Option.some.inj h
              exact tx_out X htab (show 1 + a + cntP a (.inl z : PRs RI) ≤ 210 by omega) (show 8 + 4 * a + 4 * cntP a (.inl z : PRs RI) ≤ 850 by omega) (fun t3 e3 => ⟨z, h.symm, FX.up e3 hx⟩)
            · obtain ⟨r, ext2, b, e2, rfl, hb2, hrul⟩ := h4
              subst e2
              have h : pRs n tp f M (acc ++ [r.1]) r.2.1 r.2.2 = some R := h
              obtain ⟨k1, k2⟩ := hup
              have k1 : a + 1 ≤ r.2.1 := k1
              have k3 := k2.bd
              rw [List.append_assoc] at hb2
              refine TW.at ?_ hb2
              obtain ⟨fs, hfs⟩ := hrul.cellX
              have hal := hok.1
              refine tk_aastM (ext := ext ++ ext2) (k := acc.length) (N := 8) (fs := fs) X (by simp [hfs]) (by omega) (by decide) dX0_allRules_45 ?_
              rw [← hal, up_ads, hal]
              have hl9 : (acc ++ [r.1]).length = acc.length + 1 := by simp
              refine tw_iinc (q := 0) (v := nI (acc ++ [r.1]).length) (lv' := [(2, .int (nI (acc ++ [r.1]).length)), (1, .ref q), (0, .ref (K 0))]) X dX0_allRules_46 rfl (by rw [hl9]; exact nI_1 _) (by decide) rfl ?_
              refine tw_goto (tgt := 17) X dX0_allRules_49 rfl ?_
              refine tx_widen (k := 1 + r.2.1) (n := 8 + 4 * r.2.1) (by show 1 + a + (r.2.1 - a) ≤ _; omega) (by show 8 + 4 * a + 4 * (r.2.1 - a) ≤ _; omega) ?_
              exact ih (acc ++ [r.1]) (ext ++ ext2) (ads ++ [b]) r.2.1 r.2.2 k2 (by rw [hl9]; omega) h (hok.add hrul)
  have := loop M [] [] [] _ _ (TK.tok (tp := tp) (Nat.zero_le _)) (by decide) hR ⟨rfl, fun i b x h _ => by simp at h⟩
  exact tx_widen (by omega) (by omega) this
end KP7
