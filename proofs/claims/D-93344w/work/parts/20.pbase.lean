/-! PURE BASE: loops, a town as a row of numbers (Tn), how the two sides hold it (KR, TR) -/
set_option maxRecDepth 100000
theorem iter_to {L T : Type} {body : L → Option (L ⊕ T)} (f : Nat → L) : ∀ (n i : Nat), (∀ j, i ≤ j → j < i + n → body (f j) = some (.inl (f (j + 1)))) → iter body (f i) = iter body (f (i + n))
  | 0, i, _ => rfl
  | n + 1, i, h => by
    rw [iter_step (h i (Nat.le_refl _) (by omega))]
    have e : i + (n + 1) = (i + 1) + n := by omega
    rw [e]
    exact iter_to f n (i + 1) (fun j h1 h2 => h j (by omega) (by omega))
theorem iter_up {L T : Type} {body : L → Option (L ⊕ T)} {t : T} (f : Nat → L) (n : Nat) (hs : ∀ i, i < n → body (f i) = some (.inl (f (i + 1)))) (he : body (f n) = some (.inr t)) : iter body (f 0) = some t := by
  rw [iter_to f n 0 (fun j _ h => hs j (by omega)), Nat.zero_add]
  exact iter_done he
/-- a loop over i, i + 1 .. n, told by what holds at each -/
theorem iter_inv {L T : Type} {body : L → Option (L ⊕ T)} (I : Nat → L → Prop) (J : T → Prop) (n : Nat) (hs : ∀ i, i < n → ∀ s, I i s → ∃ s', body s = some (.inl s') ∧ I (i + 1) s') (he : ∀ s, I n s → ∃ t, body s = some (.inr t) ∧ J t) : ∀ (k i : Nat) (s : L), i + k = n → I i s → ∃ t, iter body s = some t ∧ J t
  | 0, i, s, e, h => by
    obtain ⟨t, h1, h2⟩ := he s (by rw [← e]; exact h)
    exact ⟨t, iter_done h1, h2⟩
  | k + 1, i, s, e, h => by
    obtain ⟨s', h1, h2⟩ := hs i (by omega) s h
    obtain ⟨t, h3, h4⟩ := iter_inv I J n hs he k (i + 1) s' (by omega) h2
    exact ⟨t, by rw [iter_step h1]; exact h3, h4⟩
/-- the same, with a way out on the way -/
theorem iter_inx {L T : Type} {body : L → Option (L ⊕ T)} (I : Nat → L → Prop) (J : T → Prop) (n : Nat) (hs : ∀ i, i < n → ∀ s, I i s → (∃ s', body s = some (.inl s') ∧ I (i + 1) s') ∨ ∃ t, body s = some (.inr t) ∧ J t) (he : ∀ s, I n s → ∃ t, body s = some (.inr t) ∧ J t) : ∀ (k i : Nat) (s : L), i + k = n → I i s → ∃ t, iter body s = some t ∧ J t
  | 0, i, s, e, h => by
    obtain ⟨t, h1, h2⟩ := he s (by rw [← e]; exact h)
    exact ⟨t, iter_done h1, h2⟩
  | k + 1, i, s, e, h => by
    rcases hs i (by omega) s h with ⟨s', h1, h2⟩ | ⟨t, h1, h2⟩
    · obtain ⟨t, h3, h4⟩ := iter_inx I J n hs he k (i + 1) s' (by omega) h2
      exact ⟨t, by rw [iter_step h1]; exact h3, h4⟩
    · exact ⟨t, iter_done h1, h2⟩
/-- the next number from c on (k of them) that P holds of; none: the one behind them -/
def nx (P : Nat → Bool) : Nat → Nat → Nat
  | 0, c => c
  | k + 1, c => if P c then c else nx P k (c + 1)
theorem nx_lo (P : Nat → Bool) : ∀ k c, c ≤ nx P k c ∧ nx P k c ≤ c + k
  | 0, c => ⟨Nat.le_refl _, Nat.le_refl _⟩
  | k + 1, c => by
    unfold nx
    split
    · omega
    · have := nx_lo P k (c + 1)
      omega
theorem nx_P (P : Nat → Bool) : ∀ k c, nx P k c < c + k → P (nx P k c) = true
  | 0, c, h => by
    unfold nx at h
    omega
  | k + 1, c, h => by
    unfold nx at h ⊢
    split at h
    · next q => rw [if_pos q]; exact q
    · next q => rw [if_neg q]; exact nx_P P k (c + 1) (by omega)
theorem nx_cong {P P' : Nat → Bool} : ∀ k c, (∀ i, c ≤ i → i < c + k → P i = P' i) → nx P k c = nx P' k c
  | 0, c, h => rfl
  | k + 1, c, h => by
    unfold nx
    rw [h c (Nat.le_refl _) (by omega), nx_cong k (c + 1) (fun i a b => h i (by omega) (by omega))]
/-- those that P holds of, one behind the other -/
def fo {S R : Type} (P : Nat → Bool) (f : Nat → S → S ⊕ R) : Nat → Nat → S → S ⊕ R
  | 0, _, s => .inl s
  | k + 1, c, s => if P c then Sum.elim (fun s' => fo P f k (c + 1) s') .inr (f c s) else fo P f k (c + 1) s
theorem fo_s {S R : Type} (P : Nat → Bool) (f : Nat → S → S ⊕ R) (k c : Nat) (s : S) : fo P f (k + 1) c s = if P c then Sum.elim (fun s' => fo P f k (c + 1) s') .inr (f c s) else fo P f k (c + 1) s := rfl
theorem nx_s (P : Nat → Bool) (k c : Nat) : nx P (k + 1) c = if P c then c else nx P k (c + 1) := rfl
theorem fo_nx {S R : Type} (P : Nat → Bool) (f : Nat → S → S ⊕ R) : ∀ k c s, fo P f k c s = if nx P k c < c + k then Sum.elim (fun s' => fo P f (c + k - (nx P k c + 1)) (nx P k c + 1) s') .inr (f (nx P k c) s) else .inl s
  | 0, c, s => by
    unfold nx
    rw [if_neg (by omega)]
    rfl
  | k + 1, c, s => by
    rw [fo_s, nx_s]
    by_cases q : P c = true
    · rw [if_pos q, if_pos q, if_pos (by omega)]
      have e : c + (k + 1) - (c + 1) = k := by omega
      rw [e]
    · rw [if_neg q, if_neg q, fo_nx P f k (c + 1) s]
      have e : c + 1 + k = c + (k + 1) := by omega
      rw [e]
theorem iter_nx {S R L T : Type} {body : L → Option (L ⊕ T)} (P : Nat → Bool) (f : Nat → S → S ⊕ R) (N : Nat) (I : S → Nat → L → Prop) (J : S → T → Prop) (JR : R → T → Prop)
    (hs : ∀ s c l, c < N → P c = true → I s c l → (∃ s' l', f c s = .inl s' ∧ body l = some (.inl l') ∧ I s' (nx P (N - (c + 1)) (c + 1)) l') ∨ ∃ r t, f c s = .inr r ∧ body l = some (.inr t) ∧ JR r t)
    (he : ∀ s l, I s N l → ∃ t, body l = some (.inr t) ∧ J s t) : ∀ k c s l, c + k = N → I s (nx P k c) l → ∃ t, iter body l = some t ∧ Sum.elim (fun s' => J s' t) (fun r => JR r t) (fo P f k c s) := by
  intro k
  induction k using Nat.strongRecOn with
  | ind k ih =>
    intro c s l hk hI
    rw [fo_nx]
    by_cases q : nx P k c < c + k
    · rw [if_pos q]
      rcases hs s (nx P k c) l (by omega) (nx_P P k c q) hI with ⟨s', l', h1, h2, h3⟩ | ⟨r, t, h1, h2, h3⟩
      · rw [h1]
        have hlo := nx_lo P k c
        have e : c + k - (nx P k c + 1) = N - (nx P k c + 1) := by omega
        rw [e]
        obtain ⟨t, h4, h5⟩ := ih (N - (nx P k c + 1)) (by omega) (nx P k c + 1) s' l' (by omega) h3
        exact ⟨t, by rw [iter_step h2]; exact h4, h5⟩
      · rw [h1]
        exact ⟨t, iter_done h2, h3⟩
    · rw [if_neg q]
      have hlo := nx_lo P k c
      have e : nx P k c = N := by omega
      rw [e] at hI
      obtain ⟨t, h1, h2⟩ := he s l hI
      exact ⟨t, iter_done h1, h2⟩
/-- what isn't done is passed over -/
theorem fo_and {S R : Type} (P Q : Nat → Bool) (f : Nat → S → S ⊕ R) : ∀ k c s, fo P (fun c s => if Q c then f c s else .inl s) k c s = fo (fun c => P c && Q c) f k c s
  | 0, _, _ => rfl
  | k + 1, c, s => by
    rw [fo_s, fo_s]
    have ih := fo_and P Q f k (c + 1)
    cases p : P c with
    | false =>
      rw [Bool.false_and, if_neg (by decide), if_neg (by decide)]
      exact ih s
    | true =>
      cases q : Q c with
      | false =>
        rw [Bool.true_and, if_pos rfl, if_neg (by decide), if_neg (by decide)]
        exact ih s
      | true =>
        rw [Bool.true_and, if_pos rfl, if_pos rfl, if_pos rfl]
        cases f c s with
        | inl s' => exact ih s'
        | inr r => rfl
/-! ### rows of numbers -/
abbrev Tn : Type := Nat → Nat
def tup (T : Tn) (i v : Nat) : Tn := fun j => if j = i then v else T j
theorem tup_s {T : Tn} {i v : Nat} : tup T i v i = v := if_pos rfl
theorem tup_n {T : Tn} {i v j : Nat} (h : j ≠ i) : tup T i v j = T j := if_neg h
theorem up2_eq {g : St} {a i : Nat} {v : Int32} {b j : Nat} : up2 g a i v b j = if b = a ∧ j = i then v else g b j := by
  unfold up2
  by_cases h : b = a
  · subst h
    rw [if_pos rfl]
    by_cases k : j = i
    · subst k
      rw [if_pos ⟨rfl, rfl⟩]
      exact pk_us
    · rw [if_neg (fun z => k z.2)]
      exact pk_un k
  · rw [if_neg h, if_neg (fun z => h z.1)]
theorem up2_n {g : St} {a i : Nat} {v : Int32} {b j : Nat} (h : ¬ (b = a ∧ j = i)) : up2 g a i v b j = g b j := by rw [up2_eq, if_neg h]
theorem up2_s {g : St} {a i : Nat} {v : Int32} : up2 g a i v a i = v := by rw [up2_eq, if_pos ⟨rfl, rfl⟩]
theorem up2_o {g : St} {a i : Nat} {v : Int32} {b : Nat} (h : b ≠ a) : up2 g a i v b = g b := if_neg h
theorem upA_n {g : St} {a : Nat} {f : Nat → Int32} {b : Nat} (h : b ≠ a) : upA g a f b = g b := if_neg h
theorem upA_s {g : St} {a : Nat} {f : Nat → Int32} : upA g a f a = f := if_pos rfl
theorem rd_n {f : Nat → Int32} {n i : Nat} (h : i < n) (hn : n < 2 ^ 31) : rd f n (nI i) = some (f i) := by
  unfold rd
  rw [if_neg (nI_in h hn), nI_clamp (by omega)]
theorem rd_l {f : Nat → Int32} {n : Nat} {x : Int32} (i : Nat) (hx : x = nI i) (h : i < n) (hn : n < 2 ^ 31) : rd f n x = some (f i) := by rw [hx]; exact rd_n h hn
theorem wr_n {g : St} {a n i : Nat} {v : Int32} (h : i < n) (hn : n < 2 ^ 31) : wr g a n (nI i) v = some (up2 g a i v) := by
  unfold wr
  rw [if_neg (nI_in h hn), nI_clamp (by omega)]
theorem wr_l {g : St} {a n : Nat} {v x : Int32} (i : Nat) (hx : x = nI i) (h : i < n) (hn : n < 2 ^ 31) : wr g a n x v = some (up2 g a i v) := by rw [hx]; exact wr_n h hn
theorem ixo_n {n i : Nat} (h : i < n) (hn : n < 2 ^ 31) : ixo n (nI i) = some i := by
  unfold ixo
  rw [if_neg (nI_in h hn), nI_clamp (by omega)]
theorem dv_n {a d : Nat} {y : Int32} (hy : y = nI d) (ha : a < 2 ^ 31) (h0 : 0 < d) (hd : d < 2 ^ 31) : dv (nI a) y = some (nI (a / d)) := by
  subst hy
  unfold dv
  rw [if_neg (nI_ne0 h0 hd), pk_div ha h0 hd]
theorem rm_n {a d : Nat} {y : Int32} (hy : y = nI d) (ha : a < 2 ^ 31) (h0 : 0 < d) (hd : d < 2 ^ 31) : rm (nI a) y = some (nI (a % d)) := by
  subst hy
  unfold rm
  rw [if_neg (nI_ne0 h0 hd), pk_rem ha h0 hd]
theorem nI_or (a b : Nat) : nI a ||| nI b = nI (a ||| b) := by
  apply Int32.toBitVec_inj.mp
  apply BitVec.eq_of_toNat_eq
  show (BitVec.ofNat 32 a ||| BitVec.ofNat 32 b).toNat = (BitVec.ofNat 32 (a ||| b)).toNat
  rw [BitVec.toNat_or, BitVec.toNat_ofNat, BitVec.toNat_ofNat, BitVec.toNat_ofNat]
  exact (Nat.or_mod_two_pow).symm
theorem nI_bit : ∀ l, l < 31 → (1 : Int32) <<< (nI l &&& 31) = nI (2 ^ l) := by decide +kernel
theorem n0 : (0 : Int32) = nI 0 := rfl
theorem n1 : (1 : Int32) = nI 1 := rfl
/-! ### a town: who is whole, what is asked, which changes can be -/
/-- 0 people, 2 fee, 3 reports, 4 changes made; 6.. worth, 14.. jars; people of five from 22 on (kind, has, needs, coins, meets); reports of three from 52 on; the ledger's threes from 70 on (which, came, had) -/
def WF (T : Tn) : Prop := T 0 ≤ 6 ∧ T 2 ≤ 50 ∧ T 3 ≤ 6 ∧ T 4 ≤ 12 ∧ (∀ i, i < 8 → T (6 + i) ≤ 99 ∧ T (14 + i) ≤ 100) ∧ (∀ p, p < 6 → T (22 + 5 * p) ≤ 5 ∧ T (23 + 5 * p) < 8 ∧ T (24 + 5 * p) < 8 ∧ T (25 + 5 * p) ≤ 999 ∧ T (26 + 5 * p) < 64) ∧
  (∀ p, p < T 0 → 1 ≤ T (22 + 5 * p)) ∧ (∀ r, r < 6 → T (52 + 3 * r) ≤ 99 ∧ T (53 + 3 * r) ≤ 99 ∧ T (54 + 3 * r) ≤ 999) ∧ ∀ k, k < 12 → T (70 + 3 * k) < 60 ∧ (T (70 + 3 * k) % 10 < 6 ∨ T (70 + 3 * k) % 10 = 9) ∧ T (71 + 3 * k) < 8 ∧ T (72 + 3 * k) < 8
def isW (T : Tn) (p : Nat) : Bool := decide (T (23 + 5 * p) = T (24 + 5 * p))
/-- who has what it needs, of the first n, without ab -/
def wS (T : Tn) (ab : Nat) : Nat → Nat
  | 0 => 0
  | p + 1 => wS T ab p ||| (if p ≠ ab ∧ isW T p = true then 2 ^ p else 0)
def pop (k : Nat) : Nat := k % 2 + k / 2 % 2 + k / 4 % 2 + k / 8 % 2 + k / 16 % 2 + k / 32 % 2
abbrev RLt : Type := Nat × (Nat → Nat × Nat × Nat) × (Nat → (Nat → Int32) → Bool)
def fac (T : Tn) (ab p : Nat) : Nat → Int32 := fun k => if k = 0 then nI (T (6 + T (23 + 5 * p))) else if k = 1 then nI (T (6 + T (24 + 5 * p))) else if k = 2 then nI (T (25 + 5 * p)) else if k = 3 then nI (pop (wS T ab (T 0))) else nI p
def isOfS (kd k : Nat) : Bool := k == 0 || k == kd || (k == 2 && kd == 3) || (k == 4 && kd == 5)
/-- the first rule of m from k on that is for one -/
def fiR (L : RLt) (kd : Nat) (f : Nat → Int32) : Nat → Nat → Option Nat
  | 0, _ => none
  | m + 1, k => if isOfS kd (L.2.1 k).1 && L.2.2 k f then some k else fiR L kd f m (k + 1)
def bas (T : Tn) (p : Nat) : Nat := (T (6 + T (24 + 5 * p)) - T (6 + T (23 + 5 * p))) + T 2
def chR (r : Nat × Nat × Nat) (v : Nat) : Nat := if r.2.1 = 0 then v + r.2.2 else if r.2.1 = 1 then v - r.2.2 else 0
def rul (L : RLt) (T : Tn) (ab p : Nat) : Nat := match fiR L (T (22 + 5 * p)) (fac T ab p) L.1 0 with
  | none => bas T p
  | some k => chR (L.2.1 k) (bas T p)
def askS (kd v co w : Nat) : Nat := if kd = 2 then v - co / 10 else if kd = 3 then (if w = 0 then (v - co / 10) / 2 else v - co / 10) else if kd = 4 then 2 * v else if kd = 5 then 2 * v - 7 else v
def pr (L : RLt) (T : Tn) (ab p : Nat) : Nat := askS (T (22 + 5 * p)) (rul L T ab p) (T (25 + 5 * p)) (pop (wS T ab (T 0)))
def LOK (L : RLt) : Prop := L.1 ≤ 8 ∧ ∀ k, k < L.1 → (L.2.1 k).1 ≤ 5 ∧ (L.2.1 k).2.1 ≤ 2 ∧ (L.2.1 k).2.2 ≤ 99
def mee (T : Tn) (p q : Nat) : Bool := (T (26 + 5 * p)).testBit q
def chg (T : Tn) (c : Nat) : Bool := decide (c / 10 < T 0) && (c % 10 == 9 || (decide (c % 10 < T 0) && decide (c / 10 < c % 10)))
def can (L : RLt) (T : Tn) (ab c : Nat) : Bool := decide (c / 10 ≠ ab) && decide (c % 10 ≠ ab) && if c % 10 = 9 then !isW T (c / 10) && decide (0 < T (14 + T (24 + 5 * (c / 10)))) && decide (T (14 + T (23 + 5 * (c / 10))) < 99) && decide (pr L T ab (c / 10) ≤ T (25 + 5 * (c / 10)))
  else mee T (c / 10) (c % 10) && !isW T (c / 10) && !isW T (c % 10) && (decide (T (23 + 5 * (c % 10)) = T (24 + 5 * (c / 10))) || decide (T (23 + 5 * (c / 10)) = T (24 + 5 * (c % 10))))
def okC (L : RLt) (T : Tn) (ab c : Nat) : Bool := chg T c && can L T ab c
/-- something goes into its jar, another thing comes out of one -/
def trd (T : Tn) (p th nc : Nat) : Tn := tup (tup (tup (tup T (14 + T (23 + 5 * p)) (T (14 + T (23 + 5 * p)) + 1)) (14 + th) (tup T (14 + T (23 + 5 * p)) (T (14 + T (23 + 5 * p)) + 1) (14 + th) - 1)) (23 + 5 * p) th) (25 + 5 * p) nc
def exc (T : Tn) (p q : Nat) : Tn := tup (tup T (23 + 5 * p) (T (23 + 5 * q))) (23 + 5 * q) (T (23 + 5 * p))
def doT (L : RLt) (T : Tn) (ab c : Nat) : Tn := if c % 10 = 9 then trd T (c / 10) (T (24 + 5 * (c / 10))) (T (25 + 5 * (c / 10)) - pr L T ab (c / 10)) else exc T (c / 10) (c % 10)
def cst (L : RLt) (T : Tn) (ab c : Nat) : Nat := if c % 10 = 9 then pr L T ab (c / 10) else 0
def unT (T : Tn) (c th co : Nat) : Tn := if c % 10 = 9 then trd T (c / 10) th (T (25 + 5 * (c / 10)) + co) else exc T (c / 10) (c % 10)
/-! ### how the component holds it -/
def km (i : Nat) : Nat × Nat := if i = 0 then (40, 0) else if i = 2 then (40, 1) else if i = 3 then (40, 2) else if i = 4 then (40, 3) else if i < 14 then (50, i - 6) else if i < 22 then (51, i - 14) else if i < 52 then (45 + (i - 22) % 5, (i - 22) / 5) else if i < 70 then (52 + (i - 52) % 3, (i - 52) / 3) else if (i - 70) % 3 = 0 then (55, (i - 70) / 3) else if (i - 70) % 3 = 1 then (57, (i - 70) / 3) else (56, (i - 70) / 3)
def mkI (b j : Nat) : Nat := if b = 40 then (if j = 0 then 0 else j + 1) else if b = 50 then 6 + j else if b = 51 then 14 + j else if b < 50 then 22 + 5 * j + (b - 45) else if b < 55 then 52 + 3 * j + (b - 52) else if b = 55 then 70 + 3 * j else if b = 57 then 71 + 3 * j else 72 + 3 * j
theorem mk_km : ∀ i, i < 106 → i ≠ 1 → i ≠ 5 → mkI (km i).1 (km i).2 = i := by decide +kernel
theorem km_b : ∀ i, i < 106 → 40 ≤ (km i).1 ∧ (km i).1 < 58 := by decide +kernel
theorem km_z : ∀ i, i < 106 → i ≠ 1 → i ≠ 5 → km i ≠ (40, 4) := by decide +kernel
def abI (ab : Nat) : Int32 := if ab < 6 then nI ab else -1
def kN (b i : Nat) : Bool := (b == 0 && (i == 18 || i == 19 || i == 20 || i == 21 || i == 24 || i == 25 || i == 26)) || b == 15 || b == 17 || b == 18 || b == 23 || b == 24 || (decide (80 ≤ b) && decide (b < 100))
def kS (b i : Nat) : Bool := kN b i || (b == 0 && i == 15) || (decide (40 ≤ b) && decide (b < 60))
/-- the component's state g holds the town T, the seed z, the absent one; but for scratch it is as g0 -/
def KR (g0 g : St) (T : Tn) (z : Int32) (ab : Nat) : Prop := (∀ i, i < 106 → i ≠ 1 → i ≠ 5 → g (km i).1 (km i).2 = nI (T i)) ∧ g 40 4 = z ∧ g 0 15 = abI ab ∧ ∀ b i, kS b i = false → g b i = g0 b i
theorem kN_b {b i : Nat} (h : kN b i = true) : (b < 40 ∨ 80 ≤ b) ∧ ¬ (b = 0 ∧ i = 15) := by
  simp [kN] at h
  omega
theorem kN_S {b i : Nat} (h : kN b i = true) : kS b i = true := by
  unfold kS
  rw [h]
  rfl
theorem KR.scr {g0 g : St} {T : Tn} {z : Int32} {ab : Nat} (h : KR g0 g T z ab) {b i : Nat} (v : Int32) (hb : kN b i = true) : KR g0 (up2 g b i v) T z ab := by
  have hq := kN_b hb
  refine ⟨fun j h1 h2 h3 => ?_, ?_, ?_, fun b' j hs => ?_⟩
  · have := km_b j h1
    rw [up2_n (by omega)]
    exact h.1 j h1 h2 h3
  · rw [up2_n (by omega)]
    exact h.2.1
  · rw [up2_n (by omega)]
    exact h.2.2.1
  · rw [up2_n (fun z => by rw [z.1, z.2, kN_S hb] at hs; cases hs)]
    exact h.2.2.2 b' j hs
theorem KR.scrA {g0 g : St} {T : Tn} {z : Int32} {ab : Nat} (h : KR g0 g T z ab) {b : Nat} (f : Nat → Int32) (hb : ∀ i, kN b i = true) : KR g0 (upA g b f) T z ab := by
  have hq := kN_b (hb 15)
  refine ⟨fun j h1 h2 h3 => ?_, ?_, ?_, fun b' j hs => ?_⟩
  · have := km_b j h1
    rw [upA_n (by omega)]
    exact h.1 j h1 h2 h3
  · rw [upA_n (by omega)]
    exact h.2.1
  · rw [upA_n (by omega)]
    exact h.2.2.1
  · rw [upA_n (fun z => by rw [z, kN_S (hb j)] at hs; cases hs)]
    exact h.2.2.2 b' j hs
theorem KR.put {g0 g : St} {T : Tn} {z : Int32} {ab : Nat} (h : KR g0 g T z ab) (i v : Nat) {b j : Nat} (hi : i < 106) (h1 : i ≠ 1) (h5 : i ≠ 5) (hm : km i = (b, j)) : KR g0 (up2 g b j (nI v)) (tup T i v) z ab := by
  have hb := km_b i hi
  rw [hm] at hb
  refine ⟨fun k k1 k2 k3 => ?_, ?_, ?_, fun b' j' hs => ?_⟩
  · by_cases e : k = i
    · subst e
      rw [hm, tup_s]
      exact up2_s
    · rw [tup_n e, up2_n]
      · exact h.1 k k1 k2 k3
      · intro q
        have a := mk_km k k1 k2 k3
        have c := mk_km i hi h1 h5
        rw [hm] at c
        rw [q.1, q.2] at a
        exact e (a.symm.trans c)
  · rw [up2_n]
    · exact h.2.1
    · intro q
      exact km_z i hi h1 h5 (by rw [hm, ← q.1, ← q.2])
  · rw [up2_n (by omega)]
    exact h.2.2.1
  · rw [up2_n]
    · exact h.2.2.2 b' j' hs
    · intro q
      simp [kS] at hs
      omega
theorem KR.putz {g0 g : St} {T : Tn} {z : Int32} {ab : Nat} (h : KR g0 g T z ab) (v : Int32) : KR g0 (up2 g 40 4 v) T v ab := by
  refine ⟨fun k k1 k2 k3 => ?_, up2_s, ?_, fun b' j' hs => ?_⟩
  · rw [up2_n]
    · exact h.1 k k1 k2 k3
    · intro q
      exact km_z k k1 k2 k3 (Prod.ext q.1 q.2)
  · rw [up2_n (by omega)]
    exact h.2.2.1
  · rw [up2_n]
    · exact h.2.2.2 b' j' hs
    · intro q
      simp [kS] at hs
      omega
theorem KR.puta {g0 g : St} {T : Tn} {z : Int32} {ab : Nat} (h : KR g0 g T z ab) (ab' : Nat) {v : Int32} (hv : v = abI ab') : KR g0 (up2 g 0 15 v) T z ab' := by
  subst hv
  refine ⟨fun k k1 k2 k3 => ?_, ?_, up2_s, fun b' j' hs => ?_⟩
  · have := km_b k k1
    rw [up2_n (by omega)]
    exact h.1 k k1 k2 k3
  · rw [up2_n (by omega)]
    exact h.2.1
  · rw [up2_n]
    · exact h.2.2.2 b' j' hs
    · intro q
      simp [kS] at hs
      omega
/-! ### how the reference holds it -/
def tN (b i : Nat) : Bool := (b == 0 && (i == 6 || i == 7 || i == 11 || i == 12 || i == 13 || i == 14 || i == 15 || i == 18 || i == 19 || i == 20 || i == 21 || i == 22)) || b == 3 || b == 6 || b == 9 || b == 10 || b == 11 || b == 17 || b == 18
def tS (b i : Nat) : Bool := tN b i || (b == 0 && i == 4) || b == 1
/-- U: the rules' part of its row -/
def TR (h0 h : St) (T : Tn) (z : Int32) (U : Nat → Int32) (ab : Nat) : Prop := (∀ i, i < 106 → i ≠ 1 → i ≠ 5 → h 1 i = nI (T i)) ∧ h 1 5 = z ∧ (∀ i, i = 1 ∨ 106 ≤ i → h 1 i = U i) ∧ h 0 4 = abI ab ∧ ∀ b i, tS b i = false → h b i = h0 b i
theorem tN_b {b i : Nat} (h : tN b i = true) : b ≠ 1 ∧ ¬ (b = 0 ∧ i = 4) := by
  simp [tN] at h
  omega
theorem tN_S {b i : Nat} (h : tN b i = true) : tS b i = true := by
  unfold tS
  rw [h]
  rfl
theorem TR.scr {h0 h : St} {T : Tn} {z : Int32} {U : Nat → Int32} {ab : Nat} (k : TR h0 h T z U ab) {b i : Nat} (v : Int32) (hb : tN b i = true) : TR h0 (up2 h b i v) T z U ab := by
  have hq := tN_b hb
  refine ⟨fun j h1 h2 h3 => ?_, ?_, fun j h1 => ?_, ?_, fun b' j hs => ?_⟩
  · rw [up2_n (by omega)]
    exact k.1 j h1 h2 h3
  · rw [up2_n (by omega)]
    exact k.2.1
  · rw [up2_n (by omega)]
    exact k.2.2.1 j h1
  · rw [up2_n (by omega)]
    exact k.2.2.2.1
  · rw [up2_n (fun z => by rw [z.1, z.2, tN_S hb] at hs; cases hs)]
    exact k.2.2.2.2 b' j hs
theorem TR.put {h0 h : St} {T : Tn} {z : Int32} {U : Nat → Int32} {ab : Nat} (k : TR h0 h T z U ab) (i v : Nat) (hi : i < 106) (h1 : i ≠ 1) (h5 : i ≠ 5) : TR h0 (up2 h 1 i (nI v)) (tup T i v) z U ab := by
  refine ⟨fun j q1 q2 q3 => ?_, ?_, fun j q => ?_, ?_, fun b' j hs => ?_⟩
  · by_cases e : j = i
    · subst e
      rw [tup_s]
      exact up2_s
    · rw [tup_n e, up2_n (by omega)]
      exact k.1 j q1 q2 q3
  · rw [up2_n (by omega)]
    exact k.2.1
  · rw [up2_n (by omega)]
    exact k.2.2.1 j q
  · rw [up2_n (by omega)]
    exact k.2.2.2.1
  · rw [up2_n]
    · exact k.2.2.2.2 b' j hs
    · intro q
      simp [tS] at hs
      omega
theorem TR.putz {h0 h : St} {T : Tn} {z : Int32} {U : Nat → Int32} {ab : Nat} (k : TR h0 h T z U ab) (v : Int32) : TR h0 (up2 h 1 5 v) T v U ab := by
  refine ⟨fun j q1 q2 q3 => ?_, up2_s, fun j q => ?_, ?_, fun b' j hs => ?_⟩
  · rw [up2_n (by omega)]
    exact k.1 j q1 q2 q3
  · rw [up2_n (by omega)]
    exact k.2.2.1 j q
  · rw [up2_n (by omega)]
    exact k.2.2.2.1
  · rw [up2_n]
    · exact k.2.2.2.2 b' j hs
    · intro q
      simp [tS] at hs
      omega
theorem TR.puta {h0 h : St} {T : Tn} {z : Int32} {U : Nat → Int32} {ab : Nat} (k : TR h0 h T z U ab) (ab' : Nat) {v : Int32} (hv : v = abI ab') : TR h0 (up2 h 0 4 v) T z U ab' := by
  subst hv
  refine ⟨fun j q1 q2 q3 => ?_, ?_, fun j q => ?_, up2_s, fun b' j hs => ?_⟩
  · rw [up2_n (by omega)]
    exact k.1 j q1 q2 q3
  · rw [up2_n (by omega)]
    exact k.2.1
  · rw [up2_n (by omega)]
    exact k.2.2.1 j q
  · rw [up2_n]
    · exact k.2.2.2.2 b' j hs
    · intro q
      simp [tS] at hs
      omega
