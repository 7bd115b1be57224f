/-! the component's rules(): the fault is caught -/
set_option maxRecDepth 100000
section KCA
variable {σ : Type} {p : Program} {l : Launch} {e : Env} {R : Room} {s : State} {m : MethodId} {args : Array Value} {below : List Frame} {meth : Method} {c : Code} {Q : State → Prop} {D : va_G} {cl : List vw_C} {A : Nat → Prop} {Wd : σ → va_W} {nL ce sl : Nat} {g : σ} {pc : Nat} {lv : List (Nat × Value)} {st : List Value} {cc : ByteArray} {own : String} {tys : List (ClassId × FieldType)} {aK aV : Nat → Nat}
theorem tx_catch (X : Cx p c cc nL s args own m meth D cl tys A) {H : Heap} {E name : String} {q : Addr} (pre : List ExceptionTableEntry) (x : ExceptionTableEntry) (suf : List ExceptionTableEntry) (hsplit : c.exceptionTable.toList = pre ++ x :: suf) (hpass : ∀ z ∈ pre, covers z pc = false ∨ (z.catchType ≠ 0 ∧ ∃ nm : String, Cond.classLink own z.catchType nm ∈ lw_all ∧ va_Nc E nm s)) (hx : covers x pc = true) (h0 : x.catchType ≠ 0) (hlink : Cond.classLink own x.catchType name ∈ lw_all) (hcast : Cond.castable E name ∈ nwL) (kk : TH p l e R s m args below meth c Q A nL ce sl H x.handlerPc lv [.ref q]) : TV p l e R s m args below meth c Q A nL ce sl H pc lv st E q :=
  fun locs ls cx hl hS hc hv hcl => vx_catch X.hown pre x suf hsplit (fun z hz => (hpass z hz).elim Or.inl (fun ⟨h1, nm, h2, h3⟩ => Or.inr ⟨h1, nm, X.hts _ h2, h3⟩)) hx h0 (X.hts _ hlink) (va_Nw.use rfl (X.hN.1 _ hcast)) hc hv hcl (kk locs ls hl hS)
end KCA
section KP8
variable {p : Program} {l : Launch} {e0 : Env} {R : Room} {s : State} {m : MethodId} {args : Array Value} {below : List Frame} {meth : Method} {c : Code} {Q : State → Prop} {D : va_G} {A : Nat → Prop} {nL ce sl : Nat} {g : St} {pc : Nat} {lv : List (Nat × Value)} {st : List Value} {cc : ByteArray} {own : String} {K : Nat → Nat} {δ : Nat → ClassId} {sr ρ : Rf} {dy ext : va_W} {aK aV : Nat → Nat} {n a e : Nat} {tp : Nat → Nat}
/-- now.rules := .. -/
theorem kp_rulesX0 (X : Cx p c cc nL s args RX0 m meth D vwCl (kT δ) A) {q : Nat} (hdg : decode cc pc = .ok (.putfield 338, 3)) (kk : TW p l e0 R s m args below meth c Q D vwCl A (kW K δ sr (upR ρ 0 0 (some q)) dy) nL ce sl g (pc + 3) lv st) : TW p l e0 R s m args below meth c Q D vwCl A (kW K δ sr ρ dy) nL ce sl g pc lv (.ref q :: .ref (K 3) :: st) :=
  fun H locs ls hl hP hD hS => va_put X.hx X.hb X.hts in_X3 tyX3 tyX3_ok nmX3 X.hown X.hK hP hD hS 3 rfl rfl 18 (by decide) (X.hts _ q309) (fun _ h => h) rfl (ty := .array (.object "HadForVoice$Rule")) (v := .ref q) rfl rfl rfl (Nat.le_of_ble_eq_true rfl) hdg (fun H1 locs1 hP1 hD1 hS1 => kk H1 locs1 ls hl hP1 hD1 hS1)
theorem kg_rulesR (X : Cx p c cc nL s args RX0 m meth D vwCl (kT δ) A) {q : Nat} (hq : ρ 0 0 = some q) (hdg : decode cc pc = .ok (.getfield 338, 3)) (kk : TW p l e0 R s m args below meth c Q D vwCl A (kW K δ sr ρ dy) nL ce sl g (pc + 3) lv (.ref q :: st)) : TW p l e0 R s m args below meth c Q D vwCl A (kW K δ sr ρ dy) nL ce sl g pc lv (.ref (K 3) :: st) := by
  have h := tw_get (Wd := kW K δ sr ρ dy) (g := g) (v := va_rf (ρ 0 0)) (l := l) (e := e0) (R := R) (below := below) (Q := Q) (ce := ce) (sl := sl) (lv := lv) (st := st) X in_X3 3 rfl rfl 18 (by decide) q309 rfl rfl hdg
  rw [hq] at h
  exact h kk
/-- the fault's answer -/
theorem kg_ansF (X : Cx p c cc nL s args RX0 m meth D vwCl (kT δ) A) (hdg : decode cc pc = .ok (.getfield 342, 3)) (kk : TW p l e0 R s m args below meth c Q D vwCl A (kW K δ sr ρ dy) nL ce sl g (pc + 3) lv (.int (g 36 0) :: st)) : TW p l e0 R s m args below meth c Q D vwCl A (kW K δ sr ρ dy) nL ce sl g pc lv (.ref (K 2) :: st) :=
  fun H locs ls hl hP hD hS => va_get X.hx X.hb X.hts in_X2 X.hown X.hK hP 2 rfl rfl 6 (by decide) (X.hts _ q229) (u_same (X.hts _ q230)) rfl hdg (kk H locs ls hl hP hD hS)
/-- rules(): all were read, or a fault -/
def RuR (D : va_G) (A : Nat → Prop) (K : Nat → Nat) (δ : Nat → ClassId) (sr ρ : Rf) (dy : va_W) (g : St) (R : Nat ⊕ List RI) (v : Option Value) (t : State) : Prop :=
  (∃ o ext q ads a e, R = .inr o ∧ v = some (.int (nI o.length)) ∧ BW D vwCl A (kW K δ sr (upR ρ 0 0 (some q)) (dy ++ ext)) (up2 (pS g a e) 0 11 0) t ∧ (q, (.inl (δ 3, o.length, .inr (.inr (.inr (.inr (fun i => some ((ads[i]?).getD 0)))))) : va_E)) ∈ ext ∧ RwOK ext ads o ∧ o.length ≤ 8) ∨
  ∃ x ext a e, R = .inl x ∧ v = some (.int (-100 - nI x)) ∧ BW D vwCl A (kW K δ sr ρ (dy ++ ext)) (up2 (up2 (pS g a e) 36 0 (nI x)) 0 11 0) t
abbrev hhRules : List (Nat × Nat × Nat × Nat) := [((0 : Nat), (20 : Nat), (27 : Nat), (37 : Nat)), ((0 : Nat), (20 : Nat), (43 : Nat), (0 : Nat)), ((27 : Nat), (36 : Nat), (43 : Nat), (0 : Nat))]
set_option maxHeartbeats 4000000 in
theorem kx_rules (t : PT g n tp) {f M : Nat} {R : Nat ⊕ List RI} (hR : pRs n tp f M [] (tok n tp 0).1 (tok n tp 0).2 = some R) : CXW l yX0_rules cX0_rules 4 (some .int) hhRules (f + 17) (23 * f + 460) 210 850 D vwCl (kT δ) A aK aV (kW K δ (srK aK) ρ dy) [.ref (K 0)] g (RuR D A K δ (srK aK) ρ dy g R) (fun _ _ _ => False) := by
  refine cxW_intro (own := RX0) (lv0 := [(0, .ref (K 0))]) (by decide) rfl (Nat.le_of_ble_eq_true rfl) rfl ?_
  intro p e1 s m args below meth c Y hr htab
  have X := Y.x
  refine tw_aload_n X dX0_rules_0 rfl 0 rfl ?_
  refine kgX0_47_0 X dX0_rules_1 ?_
  refine tw_aload_n X dX0_rules_4 rfl 0 rfl ?_
  refine tx_callV (n := 0) (b := K 0) (As := []) (st := [.ref (K 3)]) Y (kx_allRules t hR) kGX0_334 kI_X0_allRules ⟨show f + 16 + 1 ≤ f + 17 by omega, show 8 + (4 + 11) + (23 * f + 430) ≤ 23 * f + 460 by omega⟩ ⟨Nat.le_refl _, Nat.le_refl _⟩ 0 rfl rfl rfl rfl (Nat.le_of_ble_eq_true rfl) dX0_rules_5 (fun E y t h4 => ?_) (fun v2 t2 h4 => ?_)
  · obtain ⟨x, hRx, hy, hE, ext, a', e', hb⟩ := h4
    subst hy
    subst hE
    refine tx_catch X [] ⟨0, 20, 27, 37⟩ _ htab (fun z hz => by cases hz) (by decide) (by decide) q247 nq249 (TW.at ?_ hb)
    refine tw_astore_n (lv' := [(1, .ref (K 2)), (0, .ref (K 0))]) X dX0_rules_27 rfl (by decide) rfl ?_
    refine tw_bipush (v := -100) X dX0_rules_28 rfl ?_
    refine tw_aload_n X dX0_rules_30 rfl 0 rfl ?_
    refine kg_ansF X dX0_rules_31 ?_
    refine tw_isub X dX0_rules_34 ?_
    rw [up2_row, pk_us]
    refine tw_istore_n (lv' := [(2, .int (-100 - nI x)), (1, .ref (K 2)), (0, .ref (K 0))]) X dX0_rules_35 rfl (by decide) rfl ?_
    refine tw_aload_n X dX0_rules_36 rfl 2 rfl ?_
    refine tw_iconst (v := 0) X dX0_rules_37 rfl ?_
    refine kpX0_219_0 X rfl dX0_rules_38 ?_
    refine tw_iload_n X dX0_rules_41 rfl 0 rfl ?_
    exact tx_iret X hr (Nat.le_refl _) (Nat.le_refl _) (fun t b => Or.inr ⟨x, ext, a', e', hRx, rfl, b⟩) dX0_rules_42
  · obtain ⟨o, ext, q, ads, a', e', hRo, rfl, hb, hq, hok, h8⟩ := h4
    refine TW.at ?_ hb
    refine kp_rulesX0 X dX0_rules_8 ?_
    refine tw_aload_n X dX0_rules_11 rfl 0 rfl ?_
    refine kgX0_47_0 X dX0_rules_12 ?_
    refine kg_rulesR (q := q) X rfl dX0_rules_15 ?_
    obtain ⟨k0, hk0⟩ := kW_dy (K := K) (sr := srK aK) (ρ := upR ρ 0 0 (some q)) (δ := δ) (g := pS g a' e') (dy := dy ++ ext) (List.mem_append_right _ hq)
    refine tw_alen (v := nI o.length) X k0 3 hk0 rfl rfl dX0_rules_18 ?_
    refine tw_istore_n (lv' := [(1, .int (nI o.length)), (0, .ref (K 0))]) X dX0_rules_19 rfl (by decide) rfl ?_
    refine tw_aload_n X dX0_rules_20 rfl 1 rfl ?_
    refine tw_iconst (v := 0) X dX0_rules_21 rfl ?_
    refine kpX0_219_0 X rfl dX0_rules_22 ?_
    refine tw_iload_n X dX0_rules_25 rfl 0 rfl ?_
    exact tx_iret X hr (Nat.le_refl _) (Nat.le_refl _) (fun t b => Or.inl ⟨o, ext, q, ads, a', e', hRo, rfl, b, hq, hok, h8⟩) dX0_rules_26
end KP8
