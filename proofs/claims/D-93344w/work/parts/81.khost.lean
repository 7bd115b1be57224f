/-! the host's rows: bytes, shorts, ints, longs, booleans -/
set_option maxRecDepth 100000
def shE (δ : Nat → ClassId) (k N : Nat) (c : Nat → Int32) : va_E := match k with
  | 0 => .inl (δ 1, N, .inl c)
  | 1 => .inl (δ 6, N, .inl c)
  | 2 => .inl (δ 0, N, .inl c)
  | 3 => .inl (δ 7, N, .inr (.inl (fun i => (c i).toInt64)))
  | _ => .inl (δ 8, N, .inl c)
def shD (δ : Nat → ClassId) (k : Nat) : ClassId := match k with | 0 => δ 1 | 1 => δ 6 | 2 => δ 0 | 3 => δ 7 | _ => δ 8
def shN (k : Nat) : String := match k with | 0 => "[B" | 1 => "[S" | 2 => "[I" | 3 => "[J" | _ => "[Z"
def shI (k : Nat) : Nat := match k with | 0 => 1 | 1 => 6 | 2 => 0 | 3 => 7 | _ => 8
def shTy (k : Nat) : FieldType := match k with | 0 => .byte | 1 => .short | 2 => .int | 3 => .long | _ => .boolean
def shNar (k : Nat) (v : Int32) : Int32 := match k with | 0 => v.toInt8.toInt32 | 1 => v.toInt16.toInt32 | 2 => v | 3 => v | _ => if v = 0 then 0 else 1
theorem sh_at {δ : Nat → ClassId} {N : Nat} {c : Nat → Int32} : ∀ k, ∃ x : vp_A, shE δ k N c = .inl (shD δ k, x) ∧ x.1 = N
  | 0 => ⟨_, rfl, rfl⟩
  | 1 => ⟨_, rfl, rfl⟩
  | 2 => ⟨_, rfl, rfl⟩
  | 3 => ⟨_, rfl, rfl⟩
  | _ + 4 => ⟨_, rfl, rfl⟩
theorem sh_ty {δ : Nat → ClassId} : ∀ k, (kT δ)[shI k]? = some (shD δ k, shTy k)
  | 0 => rfl
  | 1 => rfl
  | 2 => rfl
  | 3 => rfl
  | _ + 4 => rfl
theorem sh_nm : ∀ k, "[" ++ (shTy k).toString = shN k
  | 0 => by decide +kernel
  | 1 => by decide +kernel
  | 2 => by decide +kernel
  | 3 => by decide +kernel
  | _ + 4 => by show "[" ++ FieldType.boolean.toString = "[Z"; decide +kernel
theorem nc_sh0 : ∀ k, k < 5 → ∀ j, j < 5 → (k == j || ncL.contains (shN k, shN j)) = true := by decide +kernel
theorem nc_sh {k j : Nat} (hk : k < 5) (hj : j < 5) (h : k ≠ j) : (shN k, shN j) ∈ ncL := by
  have h1 := nc_sh0 k hk j hj
  rw [Bool.or_eq_true] at h1
  rcases h1 with h1 | h1
  · exact absurd (eq_of_beq h1) h
  · exact List.contains_iff_mem.mp h1
theorem pk_sh : ∀ k, k < 5 → packageOf (shN k) = "" ∧ (shN k).toList.length ≤ 20 := by decide +kernel
section KHA
variable {p : Program} {l : Launch} {e0 : Env} {R : Room} {s : State} {m : MethodId} {args : Array Value} {below : List Frame} {meth : Method} {c : Code} {Q : State → Prop} {D : va_G} {A : Nat → Prop} {nL ce sl : Nat} {g : St} {pc : Nat} {lv : List (Nat × Value)} {st : List Value} {cc : ByteArray} {own : String} {K : Nat → Nat} {δ : Nat → ClassId} {sr ρ : Rf} {dy d1 d2 : va_W} {aK aV : Nat → Nat}
theorem sh_find (X : Cx p c cc nL s args own m meth D vwCl (kT δ) A) (k : Nat) : s.vm.findClass (shN k) = some (shD δ k) := by
  have h := (X.hK.2 (shI k) _ (sh_ty k)).2
  rw [← sh_nm k]
  match k with
  | 0 => exact h
  | 1 => exact h
  | 2 => exact h
  | 3 => exact h
  | _ + 4 => exact h
theorem sh_recv (X : Cx p c cc nL s args own m meth D vwCl (kT δ) A) {q k N : Nat} {f : Nat → Int32} (hm : (q, shE δ k N f) ∈ dy) : ∀ H : Heap, va_P D vwCl (kW K δ sr ρ dy g) H → ∃ cell : Cell, H[q]? = some cell ∧ cell.vm.isStatics = false ∧ s.vm.findClass (shN k) = some cell.cls := by
  intro H hP
  obtain ⟨q0, he⟩ := kW_dy (K := K) (sr := sr) (ρ := ρ) (δ := δ) (g := g) hm
  obtain ⟨x, hx, _⟩ := sh_at (δ := δ) (N := N) (c := f) k
  have := hP q0 _ he
  rw [hx] at this
  refine ⟨_, this, ?_, ?_⟩
  · obtain ⟨n, f | f | f | f | f⟩ := x <;> rfl
  · rw [sh_find X k]
    obtain ⟨n, f | f | f | f | f⟩ := x <;> rfl
theorem tr_len (X : Cx p c cc nL s args own m meth D vwCl (kT δ) A) {q k N : Nat} {f : Nat → Int32} (hm : (q, shE δ k N f) ∈ dy) (hdg : decode cc pc = .ok (.arraylength, 1)) (kk : TW p l e0 R s m args below meth c Q D vwCl A (kW K δ sr ρ dy) nL ce sl g (pc + 1) lv (.int (nI N) :: st)) : TW p l e0 R s m args below meth c Q D vwCl A (kW K δ sr ρ dy) nL ce sl g pc lv (.ref q :: st) := by
  obtain ⟨q0, he⟩ := kW_dy (K := K) (sr := sr) (ρ := ρ) (δ := δ) (g := g) hm
  obtain ⟨x, hx, hN⟩ := sh_at (δ := δ) (N := N) (c := f) k
  rw [hx] at he
  exact tw_alen (v := nI N) X q0 (shI k) he (sh_ty k) (by rw [hN]; rfl) hdg kk
theorem tr_castY (X : Cx p c cc nL s args own m meth D vwCl (kT δ) A) {q k N index : Nat} {f : Nat → Int32} (hm : (q, shE δ k N f) ∈ dy) (hlink : Cond.classLink own index (shN k) ∈ lw_all) (hdg : decode cc pc = .ok (.checkcast index, 3)) (kk : TW p l e0 R s m args below meth c Q D vwCl A (kW K δ sr ρ dy) nL ce sl g (pc + 3) lv (.ref q :: st)) : TW p l e0 R s m args below meth c Q D vwCl A (kW K δ sr ρ dy) nL ce sl g pc lv (.ref q :: st) := by
  intro H locs ls hl hP hD hS
  obtain ⟨q0, he⟩ := kW_dy (K := K) (sr := sr) (ρ := ρ) (δ := δ) (g := g) hm
  obtain ⟨x, hx, hN⟩ := sh_at (δ := δ) (N := N) (c := f) k
  rw [hx] at he
  exact va_castA X.hx X.hb X.hown (X.hts _ hlink) hP q0 he (sh_find X k) hdg (kk H locs ls hl hP hD hS)
theorem tr_instY (X : Cx p c cc nL s args own m meth D vwCl (kT δ) A) {q k N index : Nat} {f : Nat → Int32} (hm : (q, shE δ k N f) ∈ dy) (hlink : Cond.classLink own index (shN k) ∈ lw_all) (hdg : decode cc pc = .ok (.instanceof index, 3)) (kk : TW p l e0 R s m args below meth c Q D vwCl A (kW K δ sr ρ dy) nL ce sl g (pc + 3) lv (.int 1 :: st)) : TW p l e0 R s m args below meth c Q D vwCl A (kW K δ sr ρ dy) nL ce sl g pc lv (.ref q :: st) := by
  intro H locs ls hl hP hD hS T hT XX
  obtain ⟨cell, h1, h2, h3⟩ := sh_recv X hm H hP
  obtain ⟨vm', X', stp⟩ := XX.instanceofYes X.hx X.hown (X.hts _ hlink) (by rw [hT]; exact h1) h2 h3 (va_asg _ _) (g := F0 m pc ls (.ref q :: st)) rfl rfl (by rw [X.hb]; exact hdg)
  obtain ⟨t, a1, b1⟩ := kk H locs ls hl hP hD hS (T.setVm vm') hT X'
  exact ⟨t, stp t a1, b1⟩
theorem tr_instN (Y : CY p c cc nL s args own m meth D vwCl (kT δ) A aK aV) {C nm : String} {q index : Nat} (hr : ∀ H : Heap, va_P D vwCl (kW K δ sr ρ dy g) H → ∃ cell : Cell, H[q]? = some cell ∧ cell.vm.isStatics = false ∧ s.vm.findClass C = some cell.cls) (hnc : (C, nm) ∈ ncL) (hlink : Cond.classLink own index nm ∈ lw_all) (hdg : decode cc pc = .ok (.instanceof index, 3)) (kk : TW p l e0 R s m args below meth c Q D vwCl A (kW K δ sr ρ dy) nL ce sl g (pc + 3) lv (.int 0 :: st)) : TW p l e0 R s m args below meth c Q D vwCl A (kW K δ sr ρ dy) nL ce sl g pc lv (.ref q :: st) :=
  fun H locs ls hl hP hD hS => va_instNo Y.x.hx Y.x.hb Y.x.hown (Y.x.hts _ hlink) (Y.n.2.2.2.2.2.2.1 (C, nm) hnc) (hr H hP) hdg (kk H locs ls hl hP hD hS)
/-- a row is made -/
theorem tr_new (X : Cx p c cc nL s args own m meth D vwCl (kT δ) A) {k N' : Nat} (hk : k < 5) {atype : ArrayType} (hty : newarray.typeOf atype = shTy k) (harr : Cond.arrayClass (newarray.typeOf atype) ∈ lw_all) (hN : N' < 2 ^ 20) (h1 : ce + 1 ≤ R.cells) (h2 : sl + N' ≤ R.slots) (hdg : decode cc pc = .ok (.newarray atype, 2)) (kk : ∀ q : Nat, TW p l e0 R s m args below meth c Q D vwCl A (kW K δ sr ρ (dy ++ [(q, shE δ k N' (fun _ => 0))])) nL (ce + 1) (sl + N') g (pc + 2) lv (.ref q :: st)) : TW p l e0 R s m args below meth c Q D vwCl A (kW K δ sr ρ dy) nL ce sl g pc lv (.int (nI N') :: st) := by
  intro H locs ls hl hP hD hS
  obtain ⟨x, hx, hN2⟩ := sh_at (δ := δ) (N := N') (c := fun _ => 0) k
  refine va_newa (N' := N') (a0 := x) (ty := shTy k) X.hx X.hb (X.hts _ harr) hty X.hK hP hD hS X.hA (fun cA => ?_) (nI_pos (by omega)) (nI_clamp (by omega)) ?_ h1 h2 hdg (fun q cB H1 hK1 hP1 hD1 hS1 => ?_)
  · match k, hk with
    | 0, _ => cases hx; rfl
    | 1, _ => cases hx; rfl
    | 2, _ => cases hx; rfl
    | 3, _ => cases hx; rfl
    | 4, _ => cases hx; rfl
  · have : componentBytes (shTy k) ≤ 8 := (by decide : ∀ k, k < 5 → componentBytes (shTy k) ≤ 8) k hk
    have h3 : N' * componentBytes (shTy k) ≤ N' * 8 := Nat.mul_le_mul_left _ this
    omega
  · have e1 : cB = shD δ k := K_same (k1 := (kT δ).length) (k2 := shI k) (c1 := cB) (ty := shTy k) hK1 (by rw [List.getElem?_append_right (Nat.le_refl _), Nat.sub_self]; rfl) (by
      rw [List.getElem?_append_left (List.getElem?_eq_some_iff.mp (sh_ty k)).1]
      exact sh_ty k)
    subst e1
    rw [← hx] at hP1 hD1
    exact kk q H1 locs ls hl (by rw [kW_app] at hP1; exact hP1) (by rw [kW_app] at hD1; exact hD1) hS1
end KHA
