/-! The plain law: loops, numbers, frames -/
theorem pl_for {T B : Type} (g : Nat → Nat → T → B) (n : Nat) (P : Nat → T → Prop)
    (step : ∀ k t, k < n → P k t → ∃ t', P (k + 1) t' ∧ ∀ m, g (m + 1) k t = g m (k + 1) t') :
    ∀ (fuel k : Nat) (t : T), n < fuel + k → k ≤ n → P k t → ∃ m t', P n t' ∧ g fuel k t = g (m + 1) n t' := by
  intro fuel
  induction fuel with
  | zero => intro k t h1 h2 _; omega
  | succ m ih =>
    intro k t h1 h2 hP
    by_cases hk : k = n
    · subst hk
      exact ⟨m, t, hP, rfl⟩
    · obtain ⟨t', hP', e⟩ := step k t (by omega) hP
      obtain ⟨m', t'', hQ, e2⟩ := ih (k + 1) t' (by omega) (by omega) hP'
      exact ⟨m', t'', hQ, (e m).trans e2⟩
theorem pl_lp {T U B : Type} (g : Nat → Nat → T → B) (h : U → B) (n : Nat) (P : Nat → T → Prop) (Q : U → Prop)
    (step : ∀ k t, k ≤ n → P k t → (k < n ∧ ∃ t', P (k + 1) t' ∧ ∀ m, g (m + 1) k t = g m (k + 1) t') ∨ (∃ u, Q u ∧ ∀ m, g (m + 1) k t = h u)) :
    ∀ (fuel k : Nat) (t : T), n < fuel + k → k ≤ n → P k t → ∃ u, Q u ∧ g fuel k t = h u := by
  intro fuel
  induction fuel with
  | zero => intro k t h1 h2 _; omega
  | succ m ih =>
    intro k t h1 h2 hP
    rcases step k t h2 hP with ⟨hk, t', hP', e⟩ | ⟨u, hQ, e⟩
    · obtain ⟨u, hQ, e2⟩ := ih (k + 1) t' (by omega) (by omega) hP'
      exact ⟨u, hQ, (e m).trans e2⟩
    · exact ⟨u, hQ, e m⟩
/-- folds over two places, the lesser first -/
def prR {α : Type} (f : Nat → Nat → α → α) (a : Nat) (z : α) : Nat → α
  | 0 => z
  | j + 1 => f a (a + 1 + j) (prR f a z j)
def prA {α : Type} (f : Nat → Nat → α → α) (n : Nat) (z : α) : Nat → α
  | 0 => z
  | a + 1 => prR f a (prA f n z a) (n - (a + 1))
theorem pl_pr {T B α : Type} (O : Nat → Nat → T → B) (I : Nat → Nat → Nat → Nat → T → B) (n N : Nat) (hN : n < N) (Inv : T → Prop) (acc : T → α) (f : Nat → Nat → α → α) (z : α)
    (o1 : ∀ m a t, a < n → Inv t → O (m + 1) a t = I m a N (a + 1) t)
    (i1 : ∀ a b t, a < b → b < n → Inv t → ∃ t', Inv t' ∧ acc t' = f a b (acc t) ∧ ∀ m m', I m a (m' + 1) b t = I m a m' (b + 1) t')
    (i2 : ∀ a t, a < n → Inv t → ∀ m m', I m a (m' + 1) n t = O m (a + 1) t) :
    ∀ (fuel : Nat) (t : T), n < fuel → Inv t → acc t = z → ∃ m t', Inv t' ∧ acc t' = prA f n z n ∧ O fuel 0 t = O (m + 1) n t' := by
  intro fuel t hf hI hz
  refine pl_for O n (fun a t => Inv t ∧ acc t = prA f n z a) ?_ fuel 0 t (by omega) (Nat.zero_le _) ⟨hI, hz⟩ |>.imp fun m h => ?_
  · intro a t ha ⟨hI, hz⟩
    have key : ∀ (g : Nat) (b : Nat) (t : T), n < g + b → a < b → b ≤ n → Inv t → acc t = prR f a (prA f n z a) (b - (a + 1)) → ∃ t', Inv t' ∧ acc t' = prA f n z (a + 1) ∧ ∀ m, I m a g b t = O m (a + 1) t' := by
      intro g
      induction g with
      | zero => intro b t h1 h2 h3; omega
      | succ g ih =>
        intro b t h1 h2 h3 hI hz
        by_cases hb : b = n
        · subst hb
          exact ⟨t, hI, hz, fun m => i2 a t ha hI m g⟩
        · obtain ⟨t', hI', hz', e⟩ := i1 a b t h2 (by omega) hI
          obtain ⟨t'', q1, q2, q3⟩ := ih (b + 1) t' (by omega) (by omega) (by omega) hI' (by
            rw [hz', hz, show b + 1 - (a + 1) = (b - (a + 1)) + 1 from by omega]
            show f a b _ = f a (a + 1 + (b - (a + 1))) _
            rw [show a + 1 + (b - (a + 1)) = b from by omega])
          exact ⟨t'', q1, q2, fun m => (e m g).trans (q3 m)⟩
    obtain ⟨t', q1, q2, q3⟩ := key N (a + 1) t (by omega) (by omega) (by omega) hI (by rw [hz, Nat.sub_self]; rfl)
    exact ⟨t', ⟨q1, q2⟩, fun m => (o1 m a t ha hI).trans (q3 m)⟩
  · obtain ⟨t', ⟨q1, q2⟩, e⟩ := h
    exact ⟨t', q1, q2, e⟩
theorem prA_rel {α β : Type} (R : α → β → Prop) {f : Nat → Nat → α → α} {g : Nat → Nat → β → β} {n : Nat} {z : α} {w : β} (h0 : R z w) (hs : ∀ a b x y, a < b → b < n → R x y → R (f a b x) (g a b y)) : ∀ k, k ≤ n → R (prA f n z k) (prA g n w k) := by
  intro k
  induction k with
  | zero => intro _; exact h0
  | succ a ih =>
    intro hk
    have key : ∀ j, j ≤ n - (a + 1) → R (prR f a (prA f n z a) j) (prR g a (prA g n w a) j) := by
      intro j
      induction j with
      | zero => intro _; exact ih (by omega)
      | succ j ihj => intro hj; exact hs a (a + 1 + j) _ _ (by omega) (by omega) (ihj (by omega))
    exact key _ (Nat.le_refl _)
theorem prA_inv {α : Type} (R : α → Prop) {f : Nat → Nat → α → α} {n : Nat} {z : α} (h0 : R z) (hs : ∀ a b x, a < b → b < n → R x → R (f a b x)) : R (prA f n z n) :=
  prA_rel (fun x (_ : α) => R x) (g := f) (w := z) h0 (fun a b x _ h1 h2 h3 => hs a b x h1 h2 h3) n (Nat.le_refl _)
theorem prA_congr {α : Type} {f g : Nat → Nat → α → α} {n : Nat} {z : α} (hs : ∀ a b x, a < b → b < n → f a b x = g a b x) : prA f n z n = prA g n z n :=
  prA_rel (fun x y => x = y) rfl (fun a b x y h1 h2 h3 => by rw [h3]; exact hs a b y h1 h2) n (Nat.le_refl _)
/-- as a rewriting with a proof of its own (not by unfolding): the kernel keeps off the arms -/
theorem nmvE {α β : Type} (a : α) (f : α → β) : nmv a f = f a := by
  have h : ∀ b, b = nmv a f → b = f a := fun b e => e
  exact (h _ rfl)
/-! numbers -/
theorem pl_ck {i : Int32} {a n : Nat} (e : i = nI a) (h : a < n) (hn : n < 2 ^ 31) {α : Type} (o : Option α) : chk i n o = o := by
  subst e
  unfold chk
  exact if_neg (nI_in h hn)
theorem pl_c03 {α : Type} (o : Option α) : chk 0 3 o = o := if_neg (by decide)
theorem pl_c13 {α : Type} (o : Option α) : chk 1 3 o = o := if_neg (by decide)
theorem pl_c23 {α : Type} (o : Option α) : chk 2 3 o = o := if_neg (by decide)
theorem pl_c06 {α : Type} (o : Option α) : chk 0 6 o = o := if_neg (by decide)
theorem pl_c16 {α : Type} (o : Option α) : chk 1 6 o = o := if_neg (by decide)
theorem pl_c26 {α : Type} (o : Option α) : chk 2 6 o = o := if_neg (by decide)
theorem pl_c36 {α : Type} (o : Option α) : chk 3 6 o = o := if_neg (by decide)
theorem pl_c46 {α : Type} (o : Option α) : chk 4 6 o = o := if_neg (by decide)
theorem pl_c56 {α : Type} (o : Option α) : chk 5 6 o = o := if_neg (by decide)
theorem pl_c0200 {α : Type} (o : Option α) : chk 0 200 o = o := if_neg (by decide)
theorem pl_c111128 {α : Type} (o : Option α) : chk 111 128 o = o := if_neg (by decide)
theorem pl_c101128 {α : Type} (o : Option α) : chk 101 128 o = o := if_neg (by decide)
theorem pl_c100128 {α : Type} (o : Option α) : chk 100 128 o = o := if_neg (by decide)
theorem pl_c116128 {α : Type} (o : Option α) : chk 116 128 o = o := if_neg (by decide)
theorem pl_c107128 {α : Type} (o : Option α) : chk 107 128 o = o := if_neg (by decide)
theorem pl_c115128 {α : Type} (o : Option α) : chk 115 128 o = o := if_neg (by decide)
theorem pl_c05 {α : Type} (o : Option α) : chk 0 5 o = o := if_neg (by decide)
theorem pl_c15 {α : Type} (o : Option α) : chk 1 5 o = o := if_neg (by decide)
theorem pl_c25 {α : Type} (o : Option α) : chk 2 5 o = o := if_neg (by decide)
theorem pl_c35 {α : Type} (o : Option α) : chk 3 5 o = o := if_neg (by decide)
theorem pl_c45 {α : Type} (o : Option α) : chk 4 5 o = o := if_neg (by decide)
theorem pl_cl {a b : Nat} (h : a < b) {α : Type} (o : Option α) : chl a b o = o := by
  unfold chl
  exact if_pos h
theorem pl_cz {y : Int32} (h : ¬ y = 0) {α : Type} (o : Option α) : chz y o = o := by
  unfold chz
  exact if_neg h
theorem pl_cz10 {α : Type} (o : Option α) : chz 10 o = o := pl_cz (by decide) o
theorem pl_cz100 {α : Type} (o : Option α) : chz 100 o = o := pl_cz (by decide) o
theorem pl_cz8 {α : Type} (o : Option α) : chz 8 o = o := pl_cz (by decide) o
theorem pl_cz12 {α : Type} (o : Option α) : chz 12 o = o := pl_cz (by decide) o
theorem pl_b0 {α : Type} (o : Option α) : chb 0 o = o := by
  unfold chb
  exact if_pos (Or.inl rfl)
theorem pl_b1 {α : Type} (o : Option α) : chb 1 o = o := by
  unfold chb
  exact if_pos (Or.inr rfl)
theorem pl_bi {α : Type} {c : Prop} {d : Decidable c} (o : Option α) : chb (@ite Int32 c d 1 0) o = o := by
  split
  · exact pl_b1 o
  · exact pl_b0 o
theorem pl_if0 {α : Type} {c : Prop} {d : Decidable c} (x y : α) : (if (@ite Int32 c d 1 0) = 0 then x else y) = @ite α c d y x := by
  by_cases h : c
  · rw [if_pos h, if_pos h]; exact if_neg (by decide)
  · rw [if_neg h, if_neg h]; exact if_pos rfl
theorem pl_in (N : Nat) (σ : xS) (v a b : Int32) : fX_in N σ v a b = some (σ, if a ≤ v ∧ v ≤ b then 1 else 0) := by
  unfold fX_in
  by_cases h1 : v < a
  · rw [if_pos h1, if_neg (fun h => absurd h.1 (Int32.not_le.mpr h1)), pl_b0]
  · rw [if_neg h1]
    by_cases h2 : b < v
    · rw [if_pos h2, if_neg (fun h => absurd h.2 (Int32.not_le.mpr h2)), pl_b0]
    · rw [if_neg h2, if_pos ⟨Int32.not_lt.mp h1, Int32.not_lt.mp h2⟩, pl_b1]
theorem pl_wi (N : Nat) (σ : mS) (v a b : Int32) : fM_within N σ v a b = some (σ, if a ≤ v ∧ v ≤ b then 1 else 0) := by
  unfold fM_within
  by_cases h1 : v < a
  · rw [if_pos h1, if_neg (fun h => absurd h.1 (Int32.not_le.mpr h1)), pl_b0]
  · rw [if_neg h1]
    by_cases h2 : b < v
    · rw [if_pos h2, if_neg (fun h => absurd h.2 (Int32.not_le.mpr h2)), pl_b0]
    · rw [if_neg h2, if_pos ⟨Int32.not_lt.mp h1, Int32.not_lt.mp h2⟩, pl_b1]
theorem pl_xone (N : Nat) (σ : xS) (v : Int32) : fX_isOne N σ v = some (σ, if 0 ≤ v ∧ v ≤ xI σ 1 - 1 then 1 else 0) := by
  simp only [fX_isOne, nmv, pl_in, obi, pl_bi]
theorem pl_mone (N : Nat) (σ : mS) (v : Int32) : fM_isOne N σ v = some (σ, if 0 ≤ v ∧ v ≤ σ.1 0 - 1 then 1 else 0) := by
  simp only [fM_isOne, nmv, pl_wi, obi, pl_bi]
theorem pl_xcell (N : Nat) (σ : xS) (v : Int32) : fX_isCell N σ v = some (σ, if 0 ≤ v ∧ v ≤ 15 then 1 else 0) := by
  simp only [fX_isCell, pl_in, obi, pl_bi]
theorem pl_xsh (N : Nat) (σ : xS) (v : Int32) : fX_isShelf N σ v = some (σ, if 0 ≤ v ∧ v ≤ 5 then 1 else 0) := by
  simp only [fX_isShelf, pl_in, obi, pl_bi]
theorem pl_msh (N : Nat) (σ : mS) (v : Int32) : fM_isShelf N σ v = some (σ, if 0 ≤ v ∧ v ≤ 5 then 1 else 0) := by
  simp only [fM_isShelf, pl_wi, obi, pl_bi]
theorem pl_rng {v : Int32} {b : Nat} (hb : b < 2 ^ 31) (h : 0 ≤ v ∧ v ≤ nI b) : ∃ k, k ≤ b ∧ v = nI k := by
  obtain ⟨j, hj, e⟩ := nI_of (Int32.not_lt.mpr h.1)
  refine ⟨j, ?_, e⟩
  have h2 := h.2
  rw [e] at h2
  exact (nI_leI hj hb).mp h2
theorem pl_one {v : Int32} {n : Nat} (hn : n < 2 ^ 31) (h : 0 ≤ v ∧ v ≤ nI n - 1) : ∃ k, k < n ∧ v = nI k := by
  cases n with
  | zero =>
    exfalso
    have h1 := Int32.le_iff_toInt_le.mp h.1
    have h2 := Int32.le_iff_toInt_le.mp h.2
    have e : (nI 0 - 1).toInt = -1 := by decide
    have e0 : (0 : Int32).toInt = 0 := by decide
    omega
  | succ n =>
    rw [nI_pred] at h
    obtain ⟨k, hk, e⟩ := pl_rng (by omega) h
    exact ⟨k, by omega, e⟩
theorem pl_oneI {k n : Nat} (hn : n < 2 ^ 31) (h : k < n) : 0 ≤ nI k ∧ nI k ≤ nI n - 1 := by
  cases n with
  | zero => omega
  | succ n => rw [nI_pred]; exact ⟨nI_pos' (by omega), nI_le (by omega) (by omega)⟩
theorem nI_mul (a b : Nat) : nI a * nI b = nI (a * b) := (Int32.ofNat_mul a b).symm
theorem pl_div {a b : Nat} (ha : a < 2 ^ 31) (hb : b < 2 ^ 31) (h0 : 0 < b) : nI a / nI b = nI (a / b) := by
  have hq : a / b < 2 ^ 31 := Nat.lt_of_le_of_lt (Nat.div_le_self a b) ha
  apply Int32.toInt_inj.mp
  rw [Int32.toInt_div_of_ne_left _ _ (by
    intro e
    have e2 := congrArg Int32.toInt e
    rw [nI_toInt ha] at e2
    have e3 : Int32.minValue.toInt = -2147483648 := by decide
    omega), nI_toInt ha, nI_toInt hb, nI_toInt hq]
  exact (Int.ofNat_tdiv a b).symm
theorem pl_mod {a b : Nat} (ha : a < 2 ^ 31) (hb : b < 2 ^ 31) (h0 : 0 < b) : nI a - nI a / nI b * nI b = nI (a % b) := by
  rw [pl_div ha hb h0, nI_mul]
  have e : nI a = nI (a % b) + nI (a / b * b) := by rw [nI_add]; congr 1; rw [Nat.mul_comm]; exact (Nat.mod_add_div a b).symm
  rw [e, Int32.add_sub_cancel]
/-! frames: what the counting of drift and marks may write -/
def qFr (σ σ' : xS) : Prop := (∀ k, k ≠ 19 → xI σ' k = xI σ k) ∧ (∀ k, k ≠ 13 → k ≠ 14 → k ≠ 44 → xJ σ' k = xJ σ k) ∧ σ'.2.2 = σ.2.2
theorem qFr.rf {σ : xS} : qFr σ σ := ⟨fun _ _ => rfl, fun _ _ _ _ => rfl, rfl⟩
theorem qFr.tr {a b c : xS} (h : qFr a b) (h2 : qFr b c) : qFr a c := ⟨fun k q => (h2.1 k q).trans (h.1 k q), fun k q1 q2 q3 => (h2.2.1 k q1 q2 q3).trans (h.2.1 k q1 q2 q3), h2.2.2.trans h.2.2⟩
theorem qFr.sj {a b : xS} (h : qFr a b) {k : Nat} (hk : k = 13 ∨ k = 14 ∨ k = 44) (i : Nat) (v : Int32) : qFr a (xSj b k i v) := by
  refine h.tr ⟨fun _ _ => rfl, fun j q1 q2 q3 => ?_, rfl⟩
  show va_up _ _ _ j = _
  exact va_up_n (by omega)
theorem qFr.si {a b : xS} (h : qFr a b) (v : Int32) : qFr a (xSi b 19 v) := by
  refine h.tr ⟨fun j q => ?_, fun _ _ _ _ => rfl, rfl⟩
  show upd _ _ _ j = _
  unfold upd
  exact if_neg q
def mFr (σ σ' : mS) : Prop := (∀ k, k ≠ 51 → σ'.1 k = σ.1 k) ∧ (∀ k, k ≠ 26 → k ≠ 27 → k ≠ 46 → k ≠ 47 → σ'.2.1 k = σ.2.1 k) ∧ σ'.2.2 = σ.2.2
theorem mFr.rf {σ : mS} : mFr σ σ := ⟨fun _ _ => rfl, fun _ _ _ _ _ => rfl, rfl⟩
theorem mFr.tr {a b c : mS} (h : mFr a b) (h2 : mFr b c) : mFr a c := ⟨fun k q => (h2.1 k q).trans (h.1 k q), fun k q1 q2 q3 q4 => (h2.2.1 k q1 q2 q3 q4).trans (h.2.1 k q1 q2 q3 q4), h2.2.2.trans h.2.2⟩
theorem mFr.sj {a b : mS} (h : mFr a b) {k : Nat} (hk : k = 26 ∨ k = 27 ∨ k = 46 ∨ k = 47) (i : Nat) (v : Int32) : mFr a (mSj b k i v) := by
  refine h.tr ⟨fun _ _ => rfl, fun j q1 q2 q3 q4 => ?_, rfl⟩
  show va_up _ _ _ j = _
  exact va_up_n (by omega)
theorem mFr.si {a b : mS} (h : mFr a b) (v : Int32) : mFr a (mSi b 51 v) := by
  refine h.tr ⟨fun j q => ?_, fun _ _ _ _ _ => rfl, rfl⟩
  show upd _ _ _ j = _
  unfold upd
  exact if_neg q
theorem xSj_s (σ : xS) (k i : Nat) (v : Int32) : xJ (xSj σ k i v) k = upd (xJ σ k) i v := va_up_s
theorem xSj_n (σ : xS) {k j : Nat} (h : j ≠ k) (i : Nat) (v : Int32) : xJ (xSj σ k i v) j = xJ σ j := va_up_n h
theorem mSj_s (σ : mS) (k i : Nat) (v : Int32) : (mSj σ k i v).2.1 k = upd (σ.2.1 k) i v := va_up_s
theorem mSj_n (σ : mS) {k j : Nat} (h : j ≠ k) (i : Nat) (v : Int32) : (mSj σ k i v).2.1 j = σ.2.1 j := va_up_n h
theorem xSi_s (σ : xS) (k : Nat) (v : Int32) : xI (xSi σ k v) k = v := by
  show upd _ _ _ _ = _
  unfold upd
  exact if_pos rfl
theorem xSi_n (σ : xS) {k j : Nat} (h : j ≠ k) (v : Int32) : xI (xSi σ k v) j = xI σ j := by
  show upd _ _ _ _ = _
  unfold upd
  exact if_neg h
theorem mSi_s (σ : mS) (k : Nat) (v : Int32) : (mSi σ k v).1 k = v := by
  show upd _ _ _ _ = _
  unfold upd
  exact if_pos rfl
theorem mSi_n (σ : mS) {k j : Nat} (h : j ≠ k) (v : Int32) : (mSi σ k v).1 j = σ.1 j := by
  show upd _ _ _ _ = _
  unfold upd
  exact if_neg h
theorem upd_s (f : Nat → Int32) (k : Nat) (x : Int32) : upd f k x k = x := by unfold upd; exact if_pos rfl
theorem upd_n (f : Nat → Int32) {k j : Nat} (h : j ≠ k) (x : Int32) : upd f k x j = f j := by unfold upd; exact if_neg h
