/-! the component's parser: all rules -/
set_option maxRecDepth 100000
theorem K_same {D : va_G} {cl : List vw_C} {tys : List (ClassId × FieldType)} {U : State} {k1 k2 : Nat} {c1 c2 : ClassId} {ty : FieldType} (h : va_K D cl tys U) (h1 : tys[k1]? = some (c1, ty)) (h2 : tys[k2]? = some (c2, ty)) : c1 = c2 := by
  have r1 := (h.2 _ _ h1).2
  have r2 := (h.2 _ _ h2).2
  cases ty with
  | object C =>
    obtain ⟨_, _, _, _, _, e1⟩ := r1
    obtain ⟨_, _, _, _, _, e2⟩ := r2
    exact Option.some.inj (e1.symm.trans e2)
  | _ => exact Option.some.inj (Eq.trans (Eq.symm r1) r2)
theorem nI_surj (x : Int32) : ∃ a : Nat, x = nI a := ⟨x.toBitVec.toNat, by
  apply Int32.toBitVec_inj.mp
  show x.toBitVec = BitVec.ofNat 32 x.toBitVec.toNat
  simp⟩
theorem RuleOK.mono {d1 d2 : va_W} {b : Nat} {k : Int32 × Int32 × Int32} {φ : Option ((Nat → Int32) → Bool)} (hd : ∀ x ∈ d1, x ∈ d2) (h : RuleOK d1 b k φ) : RuleOK d2 b k φ := by
  rcases h with ⟨h1, h2⟩ | ⟨ψ, c, h1, h2, h3⟩
  · exact Or.inl ⟨h1, hd _ h2⟩
  · exact Or.inr ⟨ψ, c, h1, hd _ h2, h3.mono hd (Nat.le_refl _)⟩
theorem RuleOK.cellX {d1 : va_W} {b : Nat} {k : Int32 × Int32 × Int32} {φ : Option ((Nat → Int32) → Bool)} (h : RuleOK d1 b k φ) : ∃ fs, (b, (.inr (17, fs) : va_E)) ∈ d1 := by
  rcases h with ⟨h1, h2⟩ | ⟨ψ, c, h1, h2, h3⟩
  · exact ⟨_, h2⟩
  · exact ⟨_, h2⟩
theorem cell_cong {cA : ClassId} {n : Nat} {f h : Nat → Option Nat} (e : ∀ i, i < n → f i = h i) : vp_cell cA (n, .inr (.inr (.inr (.inr f)))) = vp_cell cA (n, .inr (.inr (.inr (.inr h)))) := by
  rw [vp_cell_q, vp_cell_q]
  unfold arrV
  congr 1
  apply congrArg
  funext j
  show va_rf (f j.1) = va_rf (h j.1)
  rw [e j.1 j.2]
section KP6
variable {p : Program} {l : Launch} {e0 : Env} {R : Room} {s : State} {m : MethodId} {args : Array Value} {below : List Frame} {meth : Method} {c : Code} {Q : State → Prop} {D : va_G} {A : Nat → Prop} {nL ce sl : Nat} {g : St} {pc : Nat} {lv : List (Nat × Value)} {st : List Value} {cc : ByteArray} {own : String} {K : Nat → Nat} {δ : Nat → ClassId} {sr ρ : Rf} {dy ext : va_W} {aK aV : Nat → Nat} {n a e : Nat} {tp : Nat → Nat}
/-- a row of references is made -/
theorem tk_newq (X : Cx p c cc nL s args own m meth D vwCl (kT δ) A) {C : String} {index t0 N' : Nat} {cA : ClassId} (hcl : Cond.classLink own index C ∈ lw_all) (hover : va_AO C s) (ht : (kT δ)[t0]? = some (cA, .object C)) (hN : N' < 2 ^ 20) (h1 : ce + 1 ≤ R.cells) (h2 : sl + N' ≤ R.slots) (hdg : decode cc pc = .ok (.anewarray index, 3)) (kk : ∀ q : Nat, TW p l e0 R s m args below meth c Q D vwCl A (kW K δ sr ρ (dy ++ [(q, .inl (cA, N', .inr (.inr (.inr (.inr (fun _ => none))))))])) nL (ce + 1) (sl + N') g (pc + 3) lv (.ref q :: st)) : TW p l e0 R s m args below meth c Q D vwCl A (kW K δ sr ρ dy) nL ce sl g pc lv (.int (nI N') :: st) := by
  intro H locs ls hl hP hD hS
  refine va_newq (N' := N') X.hx X.hb X.hown (X.hts _ hcl) hover X.hK hP hD hS X.hA (nI_pos (by omega)) (nI_clamp (by omega)) (by omega) h1 h2 hdg (fun q cB H1 hK1 hP1 hD1 hS1 => ?_)
  have e1 : cB = cA := K_same (k1 := (kT δ).length) (k2 := t0) (c1 := cB) (ty := .object C) hK1 (by rw [List.getElem?_append_right (Nat.le_refl _), Nat.sub_self]; rfl) (by
    rw [List.getElem?_append_left (List.getElem?_eq_some_iff.mp ht).1]
    exact ht)
  subst e1
  exact kk q H1 locs ls hl (by rw [kW_app] at hP1; exact hP1) (by rw [kW_app] at hD1; exact hD1) hS1
/-- a rule comes into the row in the middle of dy -/
theorem tk_aastM (X : Cx p c cc nL s args own m meth D vwCl (kT δ) A) {k q b N : Nat} {f : Nat → Option Nat} {fs : List Value} (hb : (b, (.inr (17, fs) : va_E)) ∈ ext) (hk : k < N) (hN : N < 2 ^ 20) (hdg : decode cc pc = .ok (.aastore, 1)) (kk : TW p l e0 R s m args below meth c Q D vwCl A (kW K δ sr ρ (dy ++ (q, .inl (δ 3, N, .inr (.inr (.inr (.inr (va_up f k (some b))))))) :: ext)) nL ce sl g (pc + 1) lv st) : TW p l e0 R s m args below meth c Q D vwCl A (kW K δ sr ρ (dy ++ (q, .inl (δ 3, N, .inr (.inr (.inr (.inr f))))) :: ext)) nL ce sl g pc lv (.ref b :: .int (nI k) :: .ref q :: st) := by
  intro H locs ls hl hP hD hS
  obtain ⟨q0, he⟩ := kW_dy (K := K) (sr := sr) (ρ := ρ) (δ := δ) (g := g) (q := (b, (.inr (17, fs) : va_E))) (dy := dy ++ (q, .inl (δ 3, N, .inr (.inr (.inr (.inr f))))) :: ext) (by simp [hb])
  refine va_astq X.hx X.hb X.hK hP hD hS (dy.length + 68) 3 q0 17 (kW_m _) rfl he rfl (vp_in_nI hk (by omega)) hdg (fun H1 locs1 hP1 hD1 hS1 => ?_)
  rw [nI_clamp (by omega), kW_ms] at hP1 hD1
  exact kk H1 locs1 ls hl hP1 hD1 hS1
/-- the row's first k rules come into the one made last -/
theorem tk_copyR (X : Cx p c cc nL s args RX0 m meth D vwCl (kT δ) A) {k q q2 N : Nat} {f : Nat → Option Nat} (hf : ∀ i, i < k → ∃ b fs, f i = some b ∧ (b, (.inr (17, fs) : va_E)) ∈ ext) (hk : k ≤ N) (hN : N < 2 ^ 20) (hR : 1 ≤ R.frames ∧ 40 ≤ R.locals) (hW : (st.map fun v => v.category).sum ≤ 8) (hdg : decode cc pc = .ok (.invokestatic 328, 3)) (kk : TW p l e0 R s m args below meth c Q D vwCl A (kW K δ sr ρ ((dy ++ (q, .inl (δ 3, N, .inr (.inr (.inr (.inr f))))) :: ext) ++ [(q2, .inl (δ 3, k, .inr (.inr (.inr (.inr (fun i => some ((f i).getD 0)))))))])) nL ce sl g (pc + 3) lv st) : TW p l e0 R s m args below meth c Q D vwCl A (kW K δ sr ρ ((dy ++ (q, .inl (δ 3, N, .inr (.inr (.inr (.inr f))))) :: ext) ++ [(q2, .inl (δ 3, k, .inr (.inr (.inr (.inr (fun _ => none))))))])) nL ce sl g pc lv (.int (nI k) :: .int 0 :: .ref q2 :: .int 0 :: .ref q :: st) := by
  intro H locs ls hl hP hD hS
  refine va_copyq (C := "HadForVoice$Rule") (E0 := "HadForVoice$Rule") (E1 := "HadForVoice$Rule") (ls := ls) X.hx X.hb (X.hml.trans hl.1.symm) X.hown (X.hts _ q920) (X.hts _ q922) (X.hts _ q921) (X.hts _ q145) X.hK hP hD hS (dy.length + 68) ((dy ++ (q, .inl (δ 3, N, .inr (.inr (.inr (.inr f))))) :: ext).length + 68) 3 3 (c0 := δ 3) (n0 := N) (f := f) (by rw [kW_at]; simp) (kW_l _) rfl rfl (by decide) (by decide) (nI_pos (by omega)) (by rw [nI_clamp (by omega)]; show 0 + k ≤ N; omega) (by rw [nI_clamp (by omega)]; show 0 + k ≤ k; omega) (fun i hi y hy => ?_) (fun comp c0 h1 h2 => vb_asgS comp c0 h1 h2) hR.1 (Nat.le_trans (Nat.add_le_add hW (Nat.le_of_ble_eq_true rfl : nativeFrameWords "java/lang/System" "arraycopy" 5 + 11 ≤ 32)) hR.2) hdg (fun H1 locs1 hP1 hD1 hS1 => ?_)
  · rw [nI_clamp (by omega)] at hi
    obtain ⟨b, fs, h1, h2⟩ := hf i hi
    have hy2 : f (0 + i) = some y := hy
    rw [Nat.zero_add, h1] at hy2
    have hby : b = y := Option.some.inj hy2
    subst hby
    obtain ⟨q0, he⟩ := kW_dy (K := K) (sr := sr) (ρ := ρ) (δ := δ) (g := g) (q := (b, (.inr (17, fs) : va_E))) (dy := (dy ++ (q, .inl (δ 3, N, .inr (.inr (.inr (.inr f))))) :: ext) ++ [(q2, .inl (δ 3, k, .inr (.inr (.inr (.inr (fun _ => none))))))]) (by simp [h2])
    exact va_recv (q := ("HadForVoice$Rule", _, _)) X.hK hP (rfl : vwCl[17]? = some _) he
  · rw [nI_clamp (by omega), kW_ls] at hP1 hD1
    have e1 : ∀ i, i < k → va_cpy f (fun _ => none) (0 : Int32).toNatClampNeg (0 : Int32).toNatClampNeg k i = (fun i => some ((f i).getD 0)) i := by
      intro i hi
      obtain ⟨b, fs, h1, h2⟩ := hf i hi
      show (if 0 ≤ i ∧ i < 0 + k then f (0 + (i - 0)) else none) = some ((f i).getD 0)
      rw [if_pos ⟨Nat.zero_le _, by omega⟩, Nat.zero_add, Nat.sub_zero, h1]
      rfl
    have hP2 : va_P D vwCl (kW K δ sr ρ ((dy ++ (q, .inl (δ 3, N, .inr (.inr (.inr (.inr f))))) :: ext) ++ [(q2, .inl (δ 3, k, .inr (.inr (.inr (.inr (fun i => some ((f i).getD 0)))))))]) g) H1 := by
      intro j x hx
      by_cases hj : j = (dy ++ (q, (.inl (δ 3, N, .inr (.inr (.inr (.inr f)))) : va_E)) :: ext).length + 68
      · subst hj
        rw [kW_l] at hx
        cases hx
        have := hP1 _ _ (kW_l _)
        show H1[q2]? = some (vp_cell _ _)
        rw [← cell_cong e1]
        exact this
      · refine hP1 j x ?_
        rw [← hx]
        rw [← kW_ls (x := (q2, .inl (δ 3, k, .inr (.inr (.inr (.inr (fun i => some ((f i).getD 0)))))))) (y := (q2, .inl (δ 3, k, .inr (.inr (.inr (.inr (va_cpy f (fun _ => none) (0 : Int32).toNatClampNeg (0 : Int32).toNatClampNeg k))))))), List.getElem?_set_ne (fun z => hj z.symm)]
    have hD2 : va_D A (kW K δ sr ρ ((dy ++ (q, .inl (δ 3, N, .inr (.inr (.inr (.inr f))))) :: ext) ++ [(q2, .inl (δ 3, k, .inr (.inr (.inr (.inr (fun i => some ((f i).getD 0)))))))]) g) := by
      have key : ∀ (j : Nat) (x : Nat × va_E), (kW K δ sr ρ ((dy ++ (q, .inl (δ 3, N, .inr (.inr (.inr (.inr f))))) :: ext) ++ [(q2, .inl (δ 3, k, .inr (.inr (.inr (.inr (fun i => some ((f i).getD 0)))))))]) g)[j]? = some x → ∃ y, (kW K δ sr ρ ((dy ++ (q, .inl (δ 3, N, .inr (.inr (.inr (.inr f))))) :: ext) ++ [(q2, .inl (δ 3, k, .inr (.inr (.inr (.inr (va_cpy f (fun _ => none) (0 : Int32).toNatClampNeg (0 : Int32).toNatClampNeg k))))))]) g)[j]? = some (x.1, y) := by
        intro j x hx
        by_cases hj : j = (dy ++ (q, (.inl (δ 3, N, .inr (.inr (.inr (.inr f)))) : va_E)) :: ext).length + 68
        · subst hj
          rw [kW_l] at hx ⊢
          cases hx
          exact ⟨_, rfl⟩
        · refine ⟨x.2, ?_⟩
          rw [← hx]
          rw [← kW_ls (x := (q2, .inl (δ 3, k, .inr (.inr (.inr (.inr (fun i => some ((f i).getD 0)))))))) (y := (q2, .inl (δ 3, k, .inr (.inr (.inr (.inr (va_cpy f (fun _ => none) (0 : Int32).toNatClampNeg (0 : Int32).toNatClampNeg k))))))), List.getElem?_set_ne (fun z => hj z.symm)]
      refine ⟨fun i j x y hx hy hxy => ?_, fun j x hx => ?_⟩
      · obtain ⟨x', hx'⟩ := key i x hx
        obtain ⟨y', hy'⟩ := key j y hy
        exact hD1.1 i j _ _ hx' hy' hxy
      · obtain ⟨x', hx'⟩ := key j x hx
        exact hD1.2 j (x.1, x') hx'
    exact kk H1 locs1 ls hl hP2 hD2 hS1
end KP6
