/-! THE COMPONENT's WORLD -/
set_option maxRecDepth 100000
abbrev Rf : Type := Nat → Nat → Option Nat
def upR (ρ : Rf) (a i : Nat) (v : Option Nat) : Rf := fun b => if b = a then (fun j => if j = i then v else ρ a j) else ρ b
theorem rf_fit (t : FieldType) (r : Option Nat) : fits (.array t) (va_rf r) = true := by cases r <;> rfl
def kT (δ : Nat → ClassId) : List (ClassId × FieldType) := [(δ 0, .int), (δ 1, .byte), (δ 2, .object "HadForVoice$Person"), (δ 3, .object "HadForVoice$Rule"), (δ 4, .object "HadForVoice$Shelf"), (δ 5, .object "java/lang/String"), (δ 6, .short), (δ 7, .long), (δ 8, .boolean)]
def kW (K : Nat → Nat) (δ : Nat → ClassId) (sr ρ : Rf) (dy : va_W) (g : St) : va_W := [(K 0, .inr (1, [.ref (K 1), .ref (K 2), .ref (K 3), .ref (K 4), .ref (K 5), .ref (K 6), .int (g 0 6), .ref (K 8), .ref (K 9), .ref (K 10), .ref (K 11), .int (g 0 11), .int (g 0 12), .int (g 0 13), .ref (K 15), .int (g 0 15), .ref (K 17), .ref (K 18), .int (g 0 18), .int (g 0 19), .int (g 0 20), .int (g 0 21), .ref (K 23), .ref (K 24), .int (g 0 24), .int (g 0 25), .int (g 0 26), .ref (K 28), .int (g 0 28), .ref (K 30), .ref (K 31), .ref (K 32)])), (K 1, .inr (5, [.null, .null, .null, .null, .null, .int 0, .int (g 35 0)])), (K 2, .inr (6, [.null, .null, .null, .null, .null, .int 0, .int (g 36 0)])), (K 3, .inr (2, [.int (g 40 0), .int (g 40 1), .int (g 40 2), .int (g 40 3), .int (g 40 4), .ref (K 45), .ref (K 46), .ref (K 47), .ref (K 48), .ref (K 49), .ref (K 50), .ref (K 51), .ref (K 52), .ref (K 53), .ref (K 54), .ref (K 55), .ref (K 56), .ref (K 57), va_rf (ρ 0 0)])), (K 4, .inr (2, [.int (g 60 0), .int (g 60 1), .int (g 60 2), .int (g 60 3), .int (g 60 4), .ref (K 65), .ref (K 66), .ref (K 67), .ref (K 68), .ref (K 69), .ref (K 70), .ref (K 71), .ref (K 72), .ref (K 73), .ref (K 74), .ref (K 75), .ref (K 76), .ref (K 77), va_rf (ρ 0 1)])), (K 5, .inr (2, [.int (g 80 0), .int (g 80 1), .int (g 80 2), .int (g 80 3), .int (g 80 4), .ref (K 85), .ref (K 86), .ref (K 87), .ref (K 88), .ref (K 89), .ref (K 90), .ref (K 91), .ref (K 92), .ref (K 93), .ref (K 94), .ref (K 95), .ref (K 96), .ref (K 97), va_rf (ρ 0 2)])), (K 45, .inl (δ 0, 6, .inl (g 45))), (K 46, .inl (δ 0, 6, .inl (g 46))), (K 47, .inl (δ 0, 6, .inl (g 47))), (K 48, .inl (δ 0, 6, .inl (g 48))), (K 49, .inl (δ 0, 6, .inl (g 49))), (K 50, .inl (δ 0, 8, .inl (g 50))), (K 51, .inl (δ 0, 8, .inl (g 51))), (K 52, .inl (δ 0, 6, .inl (g 52))), (K 53, .inl (δ 0, 6, .inl (g 53))), (K 54, .inl (δ 0, 6, .inl (g 54))), (K 55, .inl (δ 0, 12, .inl (g 55))), (K 56, .inl (δ 0, 12, .inl (g 56))), (K 57, .inl (δ 0, 12, .inl (g 57))), (K 65, .inl (δ 0, 6, .inl (g 65))), (K 66, .inl (δ 0, 6, .inl (g 66))), (K 67, .inl (δ 0, 6, .inl (g 67))), (K 68, .inl (δ 0, 6, .inl (g 68))), (K 69, .inl (δ 0, 6, .inl (g 69))), (K 70, .inl (δ 0, 8, .inl (g 70))), (K 71, .inl (δ 0, 8, .inl (g 71))), (K 72, .inl (δ 0, 6, .inl (g 72))), (K 73, .inl (δ 0, 6, .inl (g 73))), (K 74, .inl (δ 0, 6, .inl (g 74))), (K 75, .inl (δ 0, 12, .inl (g 75))), (K 76, .inl (δ 0, 12, .inl (g 76))), (K 77, .inl (δ 0, 12, .inl (g 77))), (K 85, .inl (δ 0, 6, .inl (g 85))), (K 86, .inl (δ 0, 6, .inl (g 86))), (K 87, .inl (δ 0, 6, .inl (g 87))), (K 88, .inl (δ 0, 6, .inl (g 88))), (K 89, .inl (δ 0, 6, .inl (g 89))), (K 90, .inl (δ 0, 8, .inl (g 90))), (K 91, .inl (δ 0, 8, .inl (g 91))), (K 92, .inl (δ 0, 6, .inl (g 92))), (K 93, .inl (δ 0, 6, .inl (g 93))), (K 94, .inl (δ 0, 6, .inl (g 94))), (K 95, .inl (δ 0, 12, .inl (g 95))), (K 96, .inl (δ 0, 12, .inl (g 96))), (K 97, .inl (δ 0, 12, .inl (g 97))), (K 6, .inl (δ 2, 6, .inr (.inr (.inr (.inr (ρ 1)))))), (K 8, .inl (δ 5, 6, .inr (.inr (.inr (.inr (sr 0)))))), (K 9, .inl (δ 5, 3, .inr (.inr (.inr (.inr (sr 1)))))), (K 10, .inl (δ 5, 5, .inr (.inr (.inr (.inr (sr 2)))))), (K 11, .inl (δ 1, 200, .inl (g 11))), (K 15, .inl (δ 0, 5, .inl (g 15))), (K 17, .inl (δ 0, 6, .inl (g 17))), (K 18, .inl (δ 0, 6, .inl (g 18))), (K 23, .inl (δ 0, 6, .inl (g 23))), (K 24, .inl (δ 0, 6, .inl (g 24))), (K 28, .inl (δ 0, 18, .inl (g 28))), (K 30, .inl (δ 4, 4, .inr (.inr (.inr (.inr (fun i => some (K (110 + i)))))))), (K 31, .inl (δ 4, 4, .inr (.inr (.inr (.inr (fun i => some (K (120 + i)))))))), (K 110, .inr (4, [va_rf (ρ 2 0)])), (K 111, .inr (4, [va_rf (ρ 2 1)])), (K 112, .inr (4, [va_rf (ρ 2 2)])), (K 113, .inr (4, [va_rf (ρ 2 3)])), (K 120, .inr (4, [va_rf (ρ 3 0)])), (K 121, .inr (4, [va_rf (ρ 3 1)])), (K 122, .inr (4, [va_rf (ρ 3 2)])), (K 123, .inr (4, [va_rf (ρ 3 3)])), (K 32, .inr (3, [.ref (K 33), .int (g 32 1)])), (K 33, .inl (δ 0, 30, .inl (g 33)))] ++ dy
/-! what lies in dy that the town's methods read: the rules (their row, their objects), the people's objects -/
/-- (the row's address, how many, each rule's address, (kind, does, n), its condition as a law of the facts, people's addresses, their kinds: 0 no one) -/
abbrev EE : Type := Nat × Nat × (Nat → Nat) × (Nat → Int32 × Int32 × Int32) × (Nat → Option ((Nat → Int32) → Bool)) × (Nat → Nat) × (Nat → Nat)
abbrev ra (E : EE) : Nat := E.1
abbrev rn (E : EE) : Nat := E.2.1
abbrev rA (E : EE) (k : Nat) : Nat := E.2.2.1 k
abbrev rK (E : EE) (k : Nat) : Int32 × Int32 × Int32 := E.2.2.2.1 k
abbrev rC (E : EE) (k : Nat) : Option ((Nat → Int32) → Bool) := E.2.2.2.2.1 k
abbrev pA (E : EE) (k : Nat) : Nat := E.2.2.2.2.2.1 k
abbrev pk (E : EE) (k : Nat) : Nat := E.2.2.2.2.2.2 k
/-- a condition's object, at most n deep, and what it says -/
def Rep (dy : va_W) : Nat → Nat → ((Nat → Int32) → Bool) → Prop
  | 0, _, _ => False
  | n + 1, a, φ => (∃ b ψ, (a, (.inr (13, [.ref b]) : va_E)) ∈ dy ∧ Rep dy n b ψ ∧ φ = fun f => !ψ f) ∨
    (∃ b c ψ χ, (a, (.inr (15, [.ref b, .ref c]) : va_E)) ∈ dy ∧ Rep dy n b ψ ∧ Rep dy n c χ ∧ φ = fun f => ψ f && χ f) ∨
    (∃ b c ψ χ, (a, (.inr (16, [.ref b, .ref c]) : va_E)) ∈ dy ∧ Rep dy n b ψ ∧ Rep dy n c χ ∧ φ = fun f => ψ f || χ f) ∨
    (∃ b c f1 n1 f2 n2 sg, (a, (.inr (14, [.ref b, .ref c, .int sg]) : va_E)) ∈ dy ∧ (b, (.inr (12, [.int f1, .int n1]) : va_E)) ∈ dy ∧ (c, (.inr (12, [.int f2, .int n2]) : va_E)) ∈ dy ∧ f1 < 5 ∧ f2 < 5 ∧ φ = fun f => if sg = 60 then decide ((if f1 < 0 then n1 else f f1.toNatClampNeg) < (if f2 < 0 then n2 else f f2.toNatClampNeg)) else if sg = 61 then decide ((if f1 < 0 then n1 else f f1.toNatClampNeg) = (if f2 < 0 then n2 else f f2.toNatClampNeg)) else decide ((if f2 < 0 then n2 else f f2.toNatClampNeg) < (if f1 < 0 then n1 else f f1.toNatClampNeg)))
/-- how deep conditions may be -/
def cDeep : Nat := 220
def RuleOK (dy : va_W) (a : Nat) (k : Int32 × Int32 × Int32) (φ : Option ((Nat → Int32) → Bool)) : Prop :=
  (φ = none ∧ (a, (.inr (17, [.int k.1, .int k.2.1, .int k.2.2, .null]) : va_E)) ∈ dy) ∨ ∃ ψ b, φ = some ψ ∧ (a, (.inr (17, [.int k.1, .int k.2.1, .int k.2.2, .ref b]) : va_E)) ∈ dy ∧ Rep dy cDeep b ψ
def EOK (δ : Nat → ClassId) (ρ : Rf) (dy : va_W) (E : EE) : Prop :=
  ρ 0 0 = some (ra E) ∧ (ra E, (.inl (δ 3, rn E, .inr (.inr (.inr (.inr (fun k => some (rA E k)))))) : va_E)) ∈ dy ∧ (∀ k, k < rn E → RuleOK dy (rA E k) (rK E k) (rC E k)) ∧
  ∀ k, k < 6 → pk E k = 0 ∨ (pk E k ≤ 5 ∧ ρ 1 k = some (pA E k) ∧ ∃ x y, (pA E k, (.inr (6 + pk E k, [.int x, .int y]) : va_E)) ∈ dy)
/-- a person who is there -/
def ppo (E : EE) (i : Int32) : Option Nat := if i < 0 ∨ 6 ≤ i.toNatClampNeg ∨ pk E i.toNatClampNeg = 0 then none else some i.toNatClampNeg
theorem ppo_in {E : EE} {i : Int32} {k : Nat} (h : ppo E i = some k) : vp_in i 6 ∧ i.toNatClampNeg = k ∧ k < 6 ∧ pk E k ≠ 0 := by
  unfold ppo at h
  split at h
  · cases h
  · next q =>
    have e := Option.some.inj h
    refine ⟨fun z => q (z.elim Or.inl (fun w => Or.inr (Or.inl w))), e, ?_, fun z => q (Or.inr (Or.inr (by rw [e]; exact z)))⟩
    rw [← e]
    exact Nat.not_le.mp fun z => q (Or.inr (Or.inl z))
def fMax0 (x : Int32) : Int32 := if (0 : Int32) < x then x else 0
def fAsks (kd : Nat) (p co w : Int32) : Int32 := match kd with
  | 1 => p
  | 2 => fMax0 (p - co / 10)
  | 3 => if w = 0 then fMax0 (p - co / 10) / 2 else fMax0 (p - co / 10)
  | 4 => 2 * p
  | _ => fMax0 (2 * p - 7)
theorem kW_dy {K : Nat → Nat} {δ : Nat → ClassId} {sr ρ : Rf} {dy : va_W} {g : St} {q : Nat × va_E} (h : q ∈ dy) : ∃ k : Nat, (kW K δ sr ρ dy g)[k]? = some q := by
  apply List.getElem?_of_mem
  exact List.mem_append_right _ h
section KDY
variable {p : Program} {l : Launch} {e : Env} {R : Room} {s : State} {m : MethodId} {args : Array Value} {below : List Frame} {meth : Method} {c : Code} {Q : State → Prop} {D : va_G} {A : Nat → Prop} {nL ce sl : Nat} {g g' : St} {pc : Nat} {lv : List (Nat × Value)} {st : List Value} {cc : ByteArray} {K : Nat → Nat} {δ : Nat → ClassId} {sr ρ : Rf} {dy : va_W} {E : EE}
theorem kg_rulesX0 (X : Cx p c cc nL s args RX0 m meth D vwCl (kT δ) A) (hE : EOK δ ρ dy E) (hdg : decode cc pc = .ok (.getfield 338, 3)) (kk : TW p l e R s m args below meth c Q D vwCl A (kW K δ sr ρ dy) nL ce sl g (pc + 3) lv (.ref (ra E) :: st)) : TW p l e R s m args below meth c Q D vwCl A (kW K δ sr ρ dy) nL ce sl g pc lv (.ref (K 3) :: st) := by
  have h := tw_get (Wd := kW K δ sr ρ dy) (g := g) (v := va_rf (ρ 0 0)) (l := l) (e := e) (R := R) (below := below) (Q := Q) (ce := ce) (sl := sl) (lv := lv) (st := st) X in_X3 3 rfl rfl 18 (by decide) q309 rfl rfl hdg
  rw [hE.1] at h
  exact h kk
theorem kd_rlen (X : Cx p c cc nL s args RX0 m meth D vwCl (kT δ) A) (hE : EOK δ ρ dy E) (hdg : decode cc pc = .ok (.arraylength, 1)) (kk : TW p l e R s m args below meth c Q D vwCl A (kW K δ sr ρ dy) nL ce sl g (pc + 1) lv (.int (Int32.ofNat (rn E)) :: st)) : TW p l e R s m args below meth c Q D vwCl A (kW K δ sr ρ dy) nL ce sl g pc lv (.ref (ra E) :: st) := by
  obtain ⟨k, hk⟩ := kW_dy (K := K) (sr := sr) (ρ := ρ) (δ := δ) (g := g) hE.2.1
  exact tw_alen X k 3 hk rfl rfl hdg kk
theorem kd_rald (X : Cx p c cc nL s args RX0 m meth D vwCl (kT δ) A) (hE : EOK δ ρ dy E) {i : Int32} {k : Nat} (hk : ixo (rn E) i = some k) (hdg : decode cc pc = .ok (.aaload, 1)) (kk : TW p l e R s m args below meth c Q D vwCl A (kW K δ sr ρ dy) nL ce sl g (pc + 1) lv (.ref (rA E k) :: st)) : TW p l e R s m args below meth c Q D vwCl A (kW K δ sr ρ dy) nL ce sl g pc lv (.int i :: .ref (ra E) :: st) := by
  obtain ⟨h1, h2, h3⟩ := ixo_in hk
  obtain ⟨j, hj⟩ := kW_dy (K := K) (sr := sr) (ρ := ρ) (δ := δ) (g := g) hE.2.1
  subst h2
  exact fun H locs ls hl hP hD hS => va_aldq X.hx X.hb X.hK hP j 3 hj rfl h1 hdg (kk H locs ls hl hP hD hS)
theorem kd_pald (X : Cx p c cc nL s args RX0 m meth D vwCl (kT δ) A) (hE : EOK δ ρ dy E) {i : Int32} {k : Nat} (hk : ppo E i = some k) (hdg : decode cc pc = .ok (.aaload, 1)) (kk : TW p l e R s m args below meth c Q D vwCl A (kW K δ sr ρ dy) nL ce sl g (pc + 1) lv (.ref (pA E k) :: st)) : TW p l e R s m args below meth c Q D vwCl A (kW K δ sr ρ dy) nL ce sl g pc lv (.int i :: .ref (K 6) :: st) := by
  obtain ⟨h1, h2, h3, h4⟩ := ppo_in hk
  rcases hE.2.2.2 k h3 with h5 | ⟨h5, h6, -⟩
  · exact absurd h5 h4
  · subst h2
    exact fun H locs ls hl hP hD hS => va_aldq X.hx X.hb X.hK hP 45 2 (rfl : (kW K δ sr ρ dy g)[45]? = some (K 6, .inl (δ 2, 6, .inr (.inr (.inr (.inr (ρ 1))))))) rfl h1 hdg (by rw [h6]; exact kk H locs ls hl hP hD hS)
theorem kpq_same (X : Cx p c cc nL s args RX3 m meth D vwCl (kT δ) A) (hs : ρ 0 2 = ρ 0 0) (hdg : decode cc pc = .ok (.putfield 57, 3)) (kk : TW p l e R s m args below meth c Q D vwCl A (kW K δ sr ρ dy) nL ce sl g (pc + 3) lv st) : TW p l e R s m args below meth c Q D vwCl A (kW K δ sr ρ dy) nL ce sl g pc lv (va_rf (ρ 0 2) :: .ref (K 3) :: st) := by
  rw [hs]
  exact fun H locs ls hl hP hD hS => va_put X.hx X.hb X.hts in_X3 tyX3 tyX3_ok nmX3 X.hown X.hK hP hD hS 3 rfl rfl 18 (by decide) (X.hts _ q308) (fun _ h => h) rfl (ty := .array (.object "HadForVoice$Rule")) rfl rfl (rf_fit _ _) (Nat.le_of_ble_eq_true rfl) hdg (fun H1 locs1 hP1 hD1 hS1 => kk H1 locs1 ls hl hP1 hD1 hS1)
end KDY
