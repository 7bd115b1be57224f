/-! constructors of what the text is made into -/
set_option maxRecDepth 100000
section KCT
variable {σ : Type} {p : Program} {l : Launch} {e : Env} {R : Room} {s : State} {m : MethodId} {args : Array Value} {below : List Frame} {meth : Method} {c : Code} {Q : State → Prop} {D : va_G} {cl : List vw_C} {A : Nat → Prop} {Wd : σ → va_W} {nL ce sl : Nat} {g : σ} {pc : Nat} {lv : List (Nat × Value)} {st : List Value} {cc : ByteArray} {own : String} {tys : List (ClassId × FieldType)} {aK aV : Nat → Nat}
theorem tx_callIN (Y : CY p c cc nL s args own m meth D cl tys A aK aV) {y : MethodName} {bytes : ByteArray} {L : Nat} {fr lo mc ms n index : Nat} {Rr : Option Value → State → Prop} {Xr : Addr → String → State → Prop} {As st0 : List Value} {b : Nat} (hM : CX l y bytes L none fr lo mc ms D cl tys A aK aV Wd (.ref b :: As) g Rr Xr) (hG : GoodIn lw_all (ws_ y bytes L none)) (hini : Cond.initialized y.cls ∈ lw_all) {host : String} (hl0 : Cond.methodLinkNest own index y host ∈ nwL) (hin : Cond.instanceMethod y ∈ lw_all) (hy1 : y.name = "<init>") (hd : y.cls ≠ "java/lang/invoke/MethodHandle" ∧ y.cls ≠ "java/lang/invoke/VarHandle" ∧ (parseMethodDescriptor y.desc).map (fun d => d.parameters.length) = some n) (hR : fr + 1 ≤ R.frames ∧ 8 + (L + 11) + lo ≤ R.locals) (hc : ce + mc ≤ R.cells ∧ sl + ms ≤ R.slots) (hn : As.length = n) (hst : st0 = As.reverse ++ .ref b :: st) (hW : (st.map fun v => v.category).sum ≤ 8) (hdg : decode cc pc = .ok (.invokespecial index, 3)) (kx : ∀ (E : String) (q : Addr) (t : State), Xr q E t → TV p l e R s m args below meth c Q A nL (ce + mc) (sl + ms) t.heap pc lv st E q) (kk : ∀ (v : Option Value) (t : State), Rr v t → TH p l e R s m args below meth c Q A nL (ce + mc) (sl + ms) t.heap (pc + 3) lv (v.toList ++ st)) : TW p l e R s m args below meth c Q D cl A Wd nL ce sl g pc lv st0 :=
  fun H locs ls hl hP hD hS => vx_callo (vx_runIN (host := host) (As := As) (rest := st) (b := b) Y.x.1 hM ⟨va_cnB n Y.x.hts hG rfl rfl rfl (Y.x.hN.1 _ hl0) (Y.x.hts _ hini) hd hR, hy1, Y.x.hts _ hin⟩ ⟨Wx.blind, Wx.at Y.x.hK hP hD hS Y.x.hA Y.x.hN Y.n⟩ rfl hn hl.1 hst (lv_room hW) hdg hc) hS (fun E cx q9 t H1 locs1 ht hx hS1 hc9 hv9 hcl9 => by subst ht; exact kx E q9 t hx locs1 ls cx hl hS1 hc9 hv9 hcl9) (fun v t H1 locs1 ht hr hS1 => by subst ht; exact kk v t hr locs1 ls hl hS1)
theorem tx_callU (Y : CY p c cc nL s args own m meth D cl tys A aK aV) {y : MethodName} {bytes : ByteArray} {L : Nat} {ret : Option FieldType} {fr lo mc ms n index : Nat} {Rr : Option Value → State → Prop} {Xr : Addr → String → State → Prop} {As st0 : List Value} {C owner : String} {x : MethodName} {b : Nat} (hM : CX l y bytes L ret fr lo mc ms D cl tys A aK aV Wd (.ref b :: As) g Rr Xr) (cw : va_CU R s args own C owner index x y bytes L ret (ws_ y bytes L ret) (romX fr lo mc ms) mc ms n) (hc : ce + mc ≤ R.cells ∧ sl + ms ≤ R.slots) (q0 : Nat) {ci : Nat} {fs : List Value} {T : u_T} {N : Nat} (he : (Wd g)[q0]? = some (b, .inr (ci, fs))) (hcl : cl[ci]? = some (C, T, N)) (hn : As.length = n) (hst : st0 = As.reverse ++ .ref b :: st) (hW : (st.map fun v => v.category).sum ≤ 8) (hdg : decode cc pc = .ok (.invokevirtual index, 3)) (kx : ∀ (E : String) (q : Addr) (t : State), Xr q E t → TV p l e R s m args below meth c Q A nL (ce + mc) (sl + ms) t.heap pc lv st E q) (kk : ∀ (v : Option Value) (t : State), Rr v t → TH p l e R s m args below meth c Q A nL (ce + mc) (sl + ms) t.heap (pc + 3) lv (v.toList ++ st)) : TW p l e R s m args below meth c Q D cl A Wd nL ce sl g pc lv st0 :=
  fun H locs ls hl hP hD hS => vx_callo (vx_runU (As := As) (rest := st) (b := b) (C := C) Y.x.1 hM cw ⟨Wx.blind, va_recv Y.x.hK hP (ci := ci) (q0 := q0) hcl he, Wx.at Y.x.hK hP hD hS Y.x.hA Y.x.hN Y.n⟩ rfl hn hl.1 hst (lv_room hW) hdg hc) hS (fun E cx q9 t H1 locs1 ht hx hS1 hc9 hv9 hcl9 => by subst ht; exact kx E q9 t hx locs1 ls cx hl hS1 hc9 hv9 hcl9) (fun v t H1 locs1 ht hr hS1 => by subst ht; exact kk v t hr locs1 ls hl hS1)
theorem tw_aload_nN (X : Cx p c cc nL s args own m meth D cl tys A) {k0 : Fin 4} {i : Nat} (hdg : decode cc pc = .ok (.aload_n k0, 1)) (hi : (k0 : Nat) = i) (q : Nat) (hq : lv[q]? = some (i, .null)) (k : TW p l e R s m args below meth c Q D cl A Wd nL ce sl g (pc + 1) lv (.null :: st)) : TW p l e R s m args below meth c Q D cl A Wd nL ce sl g pc lv st :=
  fun H locs ls hl hP hD hS => lv_aload_nN X.hx X.hb hdg hi (lv_at hl q hq) (k H locs ls hl hP hD hS)
theorem tw_astore_nN (X : Cx p c cc nL s args own m meth D cl tys A) {k0 : Fin 4} {i : Nat} {lv' : List (Nat × Value)} (hdg : decode cc pc = .ok (.astore_n k0, 1)) (hi : (k0 : Nat) = i) (hn : i < nL) (hl' : (i, Value.null) :: lv.filter (fun q => !(q.1 == i) && !(q.1 + 1 == i && q.2.category == 2)) = lv') (k : TW p l e R s m args below meth c Q D cl A Wd nL ce sl g (pc + 1) lv' st) : TW p l e R s m args below meth c Q D cl A Wd nL ce sl g pc lv (.null :: st) :=
  fun H locs ls hl hP hD hS => lv_astore_nN X.hx X.hb hdg hi hl hn hl' (fun ls' hl2 => k H locs ls' hl2 hP hD hS)
end KCT
section KPM
variable {p : Program} {l : Launch} {e : Env} {R : Room} {s : State} {m : MethodId} {args : Array Value} {below : List Frame} {meth : Method} {c : Code} {Q : State → Prop} {D : va_G} {A : Nat → Prop} {nL ce sl : Nat} {g : St} {pc : Nat} {lv : List (Nat × Value)} {st : List Value} {cc : ByteArray} {own : String} {K : Nat → Nat} {δ : Nat → ClassId} {sr ρ : Rf} {dy ext : va_W}
theorem dy_m (x : Nat × va_E) : (dy ++ x :: ext)[dy.length]? = some x := by simp
theorem dy_ms (x y : Nat × va_E) : (dy ++ x :: ext).set dy.length y = dy ++ y :: ext := by simp
theorem kW_m (x : Nat × va_E) : (kW K δ sr ρ (dy ++ x :: ext) g)[dy.length + 68]? = some x := by rw [kW_at, dy_m]
theorem kW_ms (x y : Nat × va_E) : (kW K δ sr ρ (dy ++ x :: ext) g).set (dy.length + 68) y = kW K δ sr ρ (dy ++ y :: ext) g := by rw [kW_set, dy_ms]
theorem tk_putM (X : Cx p c cc nL s args own m meth D vwCl (kT δ) A) (hmn : meth.name = "<init>") {ref C : String} {T : u_T} {N ci index : Nat} (hin : ∀ w ∈ u_ws C T N, w ∈ lw_all) (ty0 : Nat → FieldType) (hty : ∀ k, k < N → parseFieldDescriptor (T k).2.2.1 = some (ty0 k)) (hnm : ∀ a, a < N → ∀ b, b < N → a ≠ b → (T a).2.1 ≠ (T b).2.1) (hc : vwCl[ci]? = some (C, T, N)) (k : Nat) (hk : k < N) {nm ds : String} (hT : T k = (ref, nm, ds, true)) (hlink : Cond.fieldLink own index ref nm ds ∈ lw_all) (hdecl : ref = own) {ty : FieldType} {v : Value} (hd : parseFieldDescriptor ds = some ty) (hn : narrow ty v = v) (hfit : fits ty v = true) {q : Nat} {fs : List Value} (hl0 : k < fs.length) (hdg : decode cc pc = .ok (.putfield index, 3)) (kk : TW p l e R s m args below meth c Q D vwCl A (kW K δ sr ρ (dy ++ (q, .inr (ci, fs.set k v)) :: ext)) nL ce sl g (pc + 3) lv st) : TW p l e R s m args below meth c Q D vwCl A (kW K δ sr ρ (dy ++ (q, .inr (ci, fs)) :: ext)) nL ce sl g pc lv (v :: .ref q :: st) :=
  fun H locs ls hl hP hD hS => va_putF (ref := ref) (ty := ty) X.hx X.hb X.hts hin ty0 hty hnm X.hown X.hK hP hD hS (dy.length + 68) (kW_m _) hc k hk (by rw [hT]; exact X.hts _ hlink) (fun _ h => by rw [hT] at h ⊢; exact h) (by rw [hT]) hmn (by rw [hT]; exact hdecl) (by rw [hT]; exact hd) hn hfit hl0 hdg (fun H1 locs1 hP1 hD1 hS1 => kk H1 locs1 ls hl (by rw [kW_ms] at hP1; exact hP1) (by rw [kW_ms] at hD1; exact hD1) hS1)
end KPM
theorem kx_iCond {σ : Type} {l : Launch} {D : va_G} {cl : List vw_C} {tys : List (ClassId × FieldType)} {A : Nat → Prop} {Wd : σ → va_W} {g : σ} {aK aV : Nat → Nat} (q : Nat) : CX l yX13_init cX13_init 1 none 1 20 0 0 D cl tys A aK aV Wd [.ref q] g (fun v t => v = none ∧ BW D cl A Wd g t) (fun _ _ _ => False) := by
  refine cx_intro (own := RX13) (lv0 := [(0, .ref q)]) (by decide) rfl (Nat.le_of_ble_eq_true rfl) rfl ?_
  intro p e s m args below meth c Y hr hmn htab
  refine tw_aload_n Y.x dX13_init_0 rfl 0 rfl ?_
  refine tw_objInit Y.x q821 (Nat.le_of_ble_eq_true rfl) (Nat.le_of_ble_eq_true rfl) dX13_init_1 ?_
  exact tx_vret Y.x hr (Nat.le_refl _) (Nat.le_refl _) (fun t b => ⟨rfl, b⟩) dX13_init_4
theorem kx_iNot {l : Launch} {D : va_G} {A : Nat → Prop} {K : Nat → Nat} {δ : Nat → ClassId} {sr ρ : Rf} {dy ext : va_W} {g : St} {aK aV : Nat → Nat} (q : Nat) (a : Nat) : CX l yX14_init cX14_init 2 none 2 50 0 0 D vwCl (kT δ) A aK aV (kW K δ sr ρ (dy ++ (q, .inr (13, [.null])) :: ext)) [.ref q, .ref a] g (fun rv t => rv = none ∧ BW D vwCl A (kW K δ sr ρ (dy ++ (q, .inr (13, [.ref a])) :: ext)) g t) (fun _ _ _ => False) := by
  refine cx_intro (own := RX14) (lv0 := [(0, .ref q), (1, .ref a)]) (by decide) rfl (Nat.le_of_ble_eq_true rfl) rfl ?_
  intro p e s m args below meth c Y hr hmn htab
  refine tw_aload_n Y.x dX14_init_0 rfl 0 rfl ?_
  refine tx_callIN (n := 0) (b := q) (As := []) (st := []) Y (kx_iCond q) (lw_meth q820) q138 nq818 q819 rfl (by decide +kernel) ⟨Nat.le_of_ble_eq_true rfl, Nat.le_of_ble_eq_true rfl⟩ ⟨Nat.zero_le _, Nat.zero_le _⟩ rfl rfl (Nat.zero_le _) dX14_init_1 (fun E x t h => h.elim) (fun v t h => ?_)
  obtain ⟨rfl, hb⟩ := h
  refine TW.at ?_ hb
  refine tw_aload_n Y.x dX14_init_4 rfl 0 rfl ?_
  refine tw_aload_n Y.x dX14_init_5 rfl 1 rfl ?_
  refine tk_putM (ty := .object "HadForVoice$Cond") Y.x hmn in_X14 tyX14 tyX14_ok nmX14 rfl 0 (by decide) rfl q822 rfl (by decide +kernel) rfl rfl (Nat.le_of_ble_eq_true rfl) dX14_init_6 ?_
  exact tx_vret Y.x hr (Nat.le_refl _) (Nat.le_refl _) (fun t b => ⟨rfl, b⟩) dX14_init_9
theorem kx_iValue {l : Launch} {D : va_G} {A : Nat → Prop} {K : Nat → Nat} {δ : Nat → ClassId} {sr ρ : Rf} {dy ext : va_W} {g : St} {aK aV : Nat → Nat} (q : Nat) (u v : Int32) : CX l yX15_init cX15_init 3 none 2 50 0 0 D vwCl (kT δ) A aK aV (kW K δ sr ρ (dy ++ (q, .inr (12, [.int 0, .int 0])) :: ext)) [.ref q, .int u, .int v] g (fun rv t => rv = none ∧ BW D vwCl A (kW K δ sr ρ (dy ++ (q, .inr (12, [.int u, .int v])) :: ext)) g t) (fun _ _ _ => False) := by
  refine cx_intro (own := RX15) (lv0 := [(0, .ref q), (1, .int u), (2, .int v)]) (by decide) rfl (Nat.le_of_ble_eq_true rfl) rfl ?_
  intro p e s m args below meth c Y hr hmn htab
  refine tw_aload_n Y.x dX15_init_0 rfl 0 rfl ?_
  refine tw_objInit Y.x q841 (Nat.le_of_ble_eq_true rfl) (Nat.le_of_ble_eq_true rfl) dX15_init_1 ?_
  refine tw_aload_n Y.x dX15_init_4 rfl 0 rfl ?_
  refine tw_iload_n Y.x dX15_init_5 rfl 1 rfl ?_
  refine tk_putM (ty := .int) Y.x hmn in_X15 tyX15 tyX15_ok nmX15 rfl 0 (by decide) rfl q842 rfl rfl rfl rfl (Nat.le_of_ble_eq_true rfl) dX15_init_6 ?_
  refine tw_aload_n Y.x dX15_init_9 rfl 0 rfl ?_
  refine tw_iload_n Y.x dX15_init_10 rfl 2 rfl ?_
  refine tk_putM (ty := .int) Y.x hmn in_X15 tyX15 tyX15_ok nmX15 rfl 1 (by decide) rfl q843 rfl rfl rfl rfl (Nat.le_of_ble_eq_true rfl) dX15_init_11 ?_
  exact tx_vret Y.x hr (Nat.le_refl _) (Nat.le_refl _) (fun t b => ⟨rfl, b⟩) dX15_init_14
theorem kx_iAsks {l : Launch} {D : va_G} {A : Nat → Prop} {K : Nat → Nat} {δ : Nat → ClassId} {sr ρ : Rf} {dy ext : va_W} {g : St} {aK aV : Nat → Nat} (q : Nat) (a b : Nat) (u : Int32) : CX l yX16_init cX16_init 4 none 2 50 0 0 D vwCl (kT δ) A aK aV (kW K δ sr ρ (dy ++ (q, .inr (14, [.null, .null, .int 0])) :: ext)) [.ref q, .ref a, .int u, .ref b] g (fun rv t => rv = none ∧ BW D vwCl A (kW K δ sr ρ (dy ++ (q, .inr (14, [.ref a, .ref b, .int u])) :: ext)) g t) (fun _ _ _ => False) := by
  refine cx_intro (own := RX16) (lv0 := [(0, .ref q), (1, .ref a), (2, .int u), (3, .ref b)]) (by decide) rfl (Nat.le_of_ble_eq_true rfl) rfl ?_
  intro p e s m args below meth c Y hr hmn htab
  refine tw_aload_n Y.x dX16_init_0 rfl 0 rfl ?_
  refine tx_callIN (n := 0) (b := q) (As := []) (st := []) Y (kx_iCond q) (lw_meth q820) q138 nq858 q819 rfl (by decide +kernel) ⟨Nat.le_of_ble_eq_true rfl, Nat.le_of_ble_eq_true rfl⟩ ⟨Nat.zero_le _, Nat.zero_le _⟩ rfl rfl (Nat.zero_le _) dX16_init_1 (fun E x t h => h.elim) (fun v t h => ?_)
  obtain ⟨rfl, hb⟩ := h
  refine TW.at ?_ hb
  refine tw_aload_n Y.x dX16_init_4 rfl 0 rfl ?_
  refine tw_aload_n Y.x dX16_init_5 rfl 1 rfl ?_
  refine tk_putM (ty := .object "HadForVoice$Value") Y.x hmn in_X16 tyX16 tyX16_ok nmX16 rfl 0 (by decide) rfl q859 rfl (by decide +kernel) rfl rfl (Nat.le_of_ble_eq_true rfl) dX16_init_6 ?_
  refine tw_aload_n Y.x dX16_init_9 rfl 0 rfl ?_
  refine tw_iload_n Y.x dX16_init_10 rfl 2 rfl ?_
  refine tk_putM (ty := .int) Y.x hmn in_X16 tyX16 tyX16_ok nmX16 rfl 2 (by decide) rfl q861 rfl rfl rfl rfl (Nat.le_of_ble_eq_true rfl) dX16_init_11 ?_
  refine tw_aload_n Y.x dX16_init_14 rfl 0 rfl ?_
  refine tw_aload_n Y.x dX16_init_15 rfl 3 rfl ?_
  refine tk_putM (ty := .object "HadForVoice$Value") Y.x hmn in_X16 tyX16 tyX16_ok nmX16 rfl 1 (by decide) rfl q860 rfl (by decide +kernel) rfl rfl (Nat.le_of_ble_eq_true rfl) dX16_init_16 ?_
  exact tx_vret Y.x hr (Nat.le_refl _) (Nat.le_refl _) (fun t b => ⟨rfl, b⟩) dX16_init_19
theorem kx_iAll {l : Launch} {D : va_G} {A : Nat → Prop} {K : Nat → Nat} {δ : Nat → ClassId} {sr ρ : Rf} {dy ext : va_W} {g : St} {aK aV : Nat → Nat} {ci : Nat} {C : String} {T : u_T} (hin : ∀ w ∈ u_ws C T 2, w ∈ lw_all) (ty0 : Nat → FieldType) (hty : ∀ k, k < 2 → parseFieldDescriptor (T k).2.2.1 = some (ty0 k)) (hnm : ∀ a, a < 2 → ∀ b, b < 2 → a ≠ b → (T a).2.1 ≠ (T b).2.1) (hc : vwCl[ci]? = some (C, T, 2)) (h0 : T 0 = ("HadForVoice$All", "first", "LHadForVoice$Cond;", true)) (h1 : T 1 = ("HadForVoice$All", "second", "LHadForVoice$Cond;", true)) (q : Nat) (a b : Nat) : CX l yX17_init cX17_init 3 none 2 50 0 0 D vwCl (kT δ) A aK aV (kW K δ sr ρ (dy ++ (q, .inr (ci, [.null, .null])) :: ext)) [.ref q, .ref a, .ref b] g (fun rv t => rv = none ∧ BW D vwCl A (kW K δ sr ρ (dy ++ (q, .inr (ci, [.ref a, .ref b])) :: ext)) g t) (fun _ _ _ => False) := by
  refine cx_intro (own := RX17) (lv0 := [(0, .ref q), (1, .ref a), (2, .ref b)]) (by decide) rfl (Nat.le_of_ble_eq_true rfl) rfl ?_
  intro p e s m args below meth c Y hr hmn htab
  refine tw_aload_n Y.x dX17_init_0 rfl 0 rfl ?_
  refine tx_callIN (n := 0) (b := q) (As := []) (st := []) Y (kx_iCond q) (lw_meth q820) q138 nq875 q819 rfl (by decide +kernel) ⟨Nat.le_of_ble_eq_true rfl, Nat.le_of_ble_eq_true rfl⟩ ⟨Nat.zero_le _, Nat.zero_le _⟩ rfl rfl (Nat.zero_le _) dX17_init_1 (fun E x t h => h.elim) (fun v t h => ?_)
  obtain ⟨rfl, hb⟩ := h
  refine TW.at ?_ hb
  refine tw_aload_n Y.x dX17_init_4 rfl 0 rfl ?_
  refine tw_aload_n Y.x dX17_init_5 rfl 1 rfl ?_
  refine tk_putM (ty := .object "HadForVoice$Cond") Y.x hmn hin ty0 hty hnm hc 0 (by decide) h0 q876 rfl (by decide +kernel) rfl rfl (Nat.le_of_ble_eq_true rfl) dX17_init_6 ?_
  refine tw_aload_n Y.x dX17_init_9 rfl 0 rfl ?_
  refine tw_aload_n Y.x dX17_init_10 rfl 2 rfl ?_
  refine tk_putM (ty := .object "HadForVoice$Cond") Y.x hmn hin ty0 hty hnm hc 1 (by decide) h1 q879 rfl (by decide +kernel) rfl rfl (Nat.le_of_ble_eq_true rfl) dX17_init_11 ?_
  exact tx_vret Y.x hr (Nat.le_refl _) (Nat.le_refl _) (fun t b => ⟨rfl, b⟩) dX17_init_14
theorem kx_iSome {l : Launch} {D : va_G} {A : Nat → Prop} {K : Nat → Nat} {δ : Nat → ClassId} {sr ρ : Rf} {dy ext : va_W} {g : St} {aK aV : Nat → Nat} (q : Nat) (a b : Nat) : CX l yX18_init cX18_init 3 none 3 80 0 0 D vwCl (kT δ) A aK aV (kW K δ sr ρ (dy ++ (q, .inr (16, [.null, .null])) :: ext)) [.ref q, .ref a, .ref b] g (fun rv t => rv = none ∧ BW D vwCl A (kW K δ sr ρ (dy ++ (q, .inr (16, [.ref a, .ref b])) :: ext)) g t) (fun _ _ _ => False) := by
  refine cx_intro (own := RX18) (lv0 := [(0, .ref q), (1, .ref a), (2, .ref b)]) (by decide) rfl (Nat.le_of_ble_eq_true rfl) rfl ?_
  intro p e s m args below meth c Y hr hmn htab
  refine tw_aload_n Y.x dX18_init_0 rfl 0 rfl ?_
  refine tw_aload_n Y.x dX18_init_1 rfl 1 rfl ?_
  refine tw_aload_n Y.x dX18_init_2 rfl 2 rfl ?_
  refine tx_callI (n := 2) (b := q) (As := [.ref a, .ref b]) (st := []) Y (kx_iAll in_X18 tyX18 tyX18_ok nmX18 rfl rfl rfl q a b) (lw_meth q874) q142 q893 q873 rfl (by decide +kernel) ⟨Nat.le_of_ble_eq_true rfl, Nat.le_of_ble_eq_true rfl⟩ ⟨Nat.zero_le _, Nat.zero_le _⟩ rfl rfl (Nat.zero_le _) dX18_init_3 (fun E x t h => h.elim) (fun v t h => ?_)
  obtain ⟨rfl, hb⟩ := h
  exact TW.at (tx_vret Y.x hr (Nat.le_refl _) (Nat.le_refl _) (fun t b => ⟨rfl, b⟩) dX18_init_6) hb
theorem kx_iRuleR {l : Launch} {D : va_G} {A : Nat → Prop} {K : Nat → Nat} {δ : Nat → ClassId} {sr ρ : Rf} {dy ext : va_W} {g : St} {aK aV : Nat → Nat} (q : Nat) (a : Nat) (u v w : Int32) : CX l yX19_init cX19_init 5 none 2 50 0 0 D vwCl (kT δ) A aK aV (kW K δ sr ρ (dy ++ (q, .inr (17, [.int 0, .int 0, .int 0, .null])) :: ext)) [.ref q, .int u, .ref a, .int v, .int w] g (fun rv t => rv = none ∧ BW D vwCl A (kW K δ sr ρ (dy ++ (q, .inr (17, [.int u, .int v, .int w, .ref a])) :: ext)) g t) (fun _ _ _ => False) := by
  refine cx_intro (own := RX19) (lv0 := [(0, .ref q), (1, .int u), (2, .ref a), (3, .int v), (4, .int w)]) (by decide) rfl (Nat.le_of_ble_eq_true rfl) rfl ?_
  intro p e s m args below meth c Y hr hmn htab
  refine tw_aload_n Y.x dX19_init_0 rfl 0 rfl ?_
  refine tw_objInit Y.x q906 (Nat.le_of_ble_eq_true rfl) (Nat.le_of_ble_eq_true rfl) dX19_init_1 ?_
  refine tw_aload_n Y.x dX19_init_4 rfl 0 rfl ?_
  refine tw_iload_n Y.x dX19_init_5 rfl 1 rfl ?_
  refine tk_putM (ty := .int) Y.x hmn in_X19 tyX19 tyX19_ok nmX19 rfl 0 (by decide) rfl q907 rfl rfl rfl rfl (Nat.le_of_ble_eq_true rfl) dX19_init_6 ?_
  refine tw_aload_n Y.x dX19_init_9 rfl 0 rfl ?_
  refine tw_aload_n Y.x dX19_init_10 rfl 2 rfl ?_
  refine tk_putM (ty := .object "HadForVoice$Cond") Y.x hmn in_X19 tyX19 tyX19_ok nmX19 rfl 3 (by decide) rfl q910 rfl (by decide +kernel) rfl rfl (Nat.le_of_ble_eq_true rfl) dX19_init_11 ?_
  refine tw_aload_n Y.x dX19_init_14 rfl 0 rfl ?_
  refine tw_iload_n Y.x dX19_init_15 rfl 3 rfl ?_
  refine tk_putM (ty := .int) Y.x hmn in_X19 tyX19 tyX19_ok nmX19 rfl 1 (by decide) rfl q908 rfl rfl rfl rfl (Nat.le_of_ble_eq_true rfl) dX19_init_16 ?_
  refine tw_aload_n Y.x dX19_init_19 rfl 0 rfl ?_
  refine tw_iload Y.x dX19_init_20 4 rfl ?_
  refine tk_putM (ty := .int) Y.x hmn in_X19 tyX19 tyX19_ok nmX19 rfl 2 (by decide) rfl q909 rfl rfl rfl rfl (Nat.le_of_ble_eq_true rfl) dX19_init_22 ?_
  exact tx_vret Y.x hr (Nat.le_refl _) (Nat.le_refl _) (fun t b => ⟨rfl, b⟩) dX19_init_25
theorem kx_iRuleN {l : Launch} {D : va_G} {A : Nat → Prop} {K : Nat → Nat} {δ : Nat → ClassId} {sr ρ : Rf} {dy ext : va_W} {g : St} {aK aV : Nat → Nat} (q : Nat) (u v w : Int32) : CX l yX19_init cX19_init 5 none 2 50 0 0 D vwCl (kT δ) A aK aV (kW K δ sr ρ (dy ++ (q, .inr (17, [.int 0, .int 0, .int 0, .null])) :: ext)) [.ref q, .int u, .null, .int v, .int w] g (fun rv t => rv = none ∧ BW D vwCl A (kW K δ sr ρ (dy ++ (q, .inr (17, [.int u, .int v, .int w, .null])) :: ext)) g t) (fun _ _ _ => False) := by
  refine cx_intro (own := RX19) (lv0 := [(0, .ref q), (1, .int u), (2, .null), (3, .int v), (4, .int w)]) (by decide) rfl (Nat.le_of_ble_eq_true rfl) rfl ?_
  intro p e s m args below meth c Y hr hmn htab
  refine tw_aload_n Y.x dX19_init_0 rfl 0 rfl ?_
  refine tw_objInit Y.x q906 (Nat.le_of_ble_eq_true rfl) (Nat.le_of_ble_eq_true rfl) dX19_init_1 ?_
  refine tw_aload_n Y.x dX19_init_4 rfl 0 rfl ?_
  refine tw_iload_n Y.x dX19_init_5 rfl 1 rfl ?_
  refine tk_putM (ty := .int) Y.x hmn in_X19 tyX19 tyX19_ok nmX19 rfl 0 (by decide) rfl q907 rfl rfl rfl rfl (Nat.le_of_ble_eq_true rfl) dX19_init_6 ?_
  refine tw_aload_n Y.x dX19_init_9 rfl 0 rfl ?_
  refine tw_aload_nN Y.x dX19_init_10 rfl 2 rfl ?_
  refine tk_putM (ty := .object "HadForVoice$Cond") Y.x hmn in_X19 tyX19 tyX19_ok nmX19 rfl 3 (by decide) rfl q910 rfl (by decide +kernel) rfl rfl (Nat.le_of_ble_eq_true rfl) dX19_init_11 ?_
  refine tw_aload_n Y.x dX19_init_14 rfl 0 rfl ?_
  refine tw_iload_n Y.x dX19_init_15 rfl 3 rfl ?_
  refine tk_putM (ty := .int) Y.x hmn in_X19 tyX19 tyX19_ok nmX19 rfl 1 (by decide) rfl q908 rfl rfl rfl rfl (Nat.le_of_ble_eq_true rfl) dX19_init_16 ?_
  refine tw_aload_n Y.x dX19_init_19 rfl 0 rfl ?_
  refine tw_iload Y.x dX19_init_20 4 rfl ?_
  refine tk_putM (ty := .int) Y.x hmn in_X19 tyX19 tyX19_ok nmX19 rfl 2 (by decide) rfl q909 rfl rfl rfl rfl (Nat.le_of_ble_eq_true rfl) dX19_init_22 ?_
  exact tx_vret Y.x hr (Nat.le_refl _) (Nat.le_refl _) (fun t b => ⟨rfl, b⟩) dX19_init_25
theorem kx_iTicket {l : Launch} {D : va_G} {A : Nat → Prop} {K : Nat → Nat} {δ : Nat → ClassId} {sr ρ : Rf} {dy ext : va_W} {g : St} {aK aV : Nat → Nat} (q : Nat) (u : Int32) : CX l yX20_init cX20_init 2 none 2 50 0 0 D vwCl (kT δ) A aK aV (kW K δ sr ρ (dy ++ (q, .inr (18, [.int 0])) :: ext)) [.ref q, .int u] g (fun rv t => rv = none ∧ BW D vwCl A (kW K δ sr ρ (dy ++ (q, .inr (18, [.int u])) :: ext)) g t) (fun _ _ _ => False) := by
  refine cx_intro (own := RX20) (lv0 := [(0, .ref q), (1, .int u)]) (by decide) rfl (Nat.le_of_ble_eq_true rfl) rfl ?_
  intro p e s m args below meth c Y hr hmn htab
  refine tw_aload_n Y.x dX20_init_0 rfl 0 rfl ?_
  refine tw_objInit Y.x q1289 (Nat.le_of_ble_eq_true rfl) (Nat.le_of_ble_eq_true rfl) dX20_init_1 ?_
  refine tw_aload_n Y.x dX20_init_4 rfl 0 rfl ?_
  refine tw_iload_n Y.x dX20_init_5 rfl 1 rfl ?_
  refine tk_putM (ty := .int) Y.x hmn in_X20 tyX20 tyX20_ok nmX20 rfl 0 (by decide) rfl q1290 rfl rfl rfl rfl (Nat.le_of_ble_eq_true rfl) dX20_init_6 ?_
  exact tx_vret Y.x hr (Nat.le_refl _) (Nat.le_refl _) (fun t b => ⟨rfl, b⟩) dX20_init_9
