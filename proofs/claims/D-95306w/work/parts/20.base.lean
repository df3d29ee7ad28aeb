/-! PLAIN LAWS, 1: sums, first places, small tools for the predicates wp_ -/
theorem tt1 {A B : Prop} (a : A) : (¬ (1 : Int) = 0 → A) ∧ ((1 : Int) = 0 → B) := ⟨fun _ => a, fun h => absurd h (by decide)⟩
theorem tt0 {A B : Prop} (b : B) : (¬ (0 : Int) = 0 → A) ∧ ((0 : Int) = 0 → B) := ⟨fun h => absurd rfl h, fun _ => b⟩
theorem tf1 {A B : Prop} (b : B) : ((1 : Int) = 0 → A) ∧ (¬ (1 : Int) = 0 → B) := ⟨fun h => absurd h (by decide), fun _ => b⟩
theorem tf0 {A B : Prop} (a : A) : ((0 : Int) = 0 → A) ∧ (¬ (0 : Int) = 0 → B) := ⟨fun _ => a, fun h => absurd rfl h⟩
noncomputable def b2i (P : Prop) : Int := @ite _ P (Classical.propDecidable P) 1 0
theorem b2i_t {P : Prop} (h : P) : b2i P = 1 := by unfold b2i; rw [if_pos h]
theorem b2i_f {P : Prop} (h : ¬ P) : b2i P = 0 := by unfold b2i; rw [if_neg h]
theorem b2i_01 (P : Prop) : b2i P = 0 ∨ b2i P = 1 := by
  by_cases h : P
  · exact Or.inr (b2i_t h)
  · exact Or.inl (b2i_f h)
theorem b2i_c {P R : Prop} (h : P ↔ R) : b2i P = b2i R := by rw [propext h]
theorem b2i_1 {P : Prop} : b2i P = 1 ↔ P := by
  constructor
  · intro h
    by_cases q : P
    · exact q
    · rw [b2i_f q] at h; exact absurd h (by decide)
  · exact b2i_t
theorem b2i_0 {P : Prop} : b2i P = 0 ↔ ¬ P := by
  constructor
  · intro h q
    rw [b2i_t q] at h; exact absurd h (by decide)
  · exact b2i_f
def sm (f : Int → Int) : Nat → Int
  | 0 => 0
  | n + 1 => sm f n + f (n : Int)
theorem sm_0 (f : Int → Int) : sm f (0 : Int).toNat = 0 := rfl
theorem sm_s (f : Int → Int) {k : Int} (h : 0 ≤ k) : sm f (k + 1).toNat = sm f k.toNat + f k := by
  have e : (k + 1).toNat = k.toNat + 1 := by omega
  rw [e]
  show sm f k.toNat + f ((k.toNat : Nat) : Int) = _
  rw [Int.toNat_of_nonneg h]
theorem sm_c {f g : Int → Int} (n : Nat) (h : ∀ k : Int, 0 ≤ k → k < n → f k = g k) : sm f n = sm g n := by
  induction n with
  | zero => rfl
  | succ n ih =>
    show sm f n + f n = sm g n + g n
    rw [ih (fun k h0 h1 => h k h0 (by omega)), h n (by omega) (by omega)]
theorem sm_ci {f g : Int → Int} {n : Int} (h : ∀ k : Int, 0 ≤ k → k < n → f k = g k) : sm f n.toNat = sm g n.toNat := sm_c _ (fun k h0 h1 => h k h0 (by omega))
theorem sm_b {f : Int → Int} (M : Int) (n : Nat) (h : ∀ k : Int, 0 ≤ k → k < n → 0 ≤ f k ∧ f k ≤ M) : 0 ≤ sm f n ∧ sm f n ≤ M * n := by
  induction n with
  | zero => simp [sm]
  | succ n ih =>
    have h1 := ih (fun k h0 h1 => h k h0 (by omega))
    have h2 := h n (by omega) (by omega)
    show 0 ≤ sm f n + f n ∧ sm f n + f n ≤ M * ((n + 1 : Nat) : Int)
    have e : M * ((n + 1 : Nat) : Int) = M * n + M := by
      rw [Int.natCast_succ, Int.mul_add, Int.mul_one]
    omega
theorem sm_bi {f : Int → Int} (M : Int) {n : Int} (h0 : 0 ≤ n) (h : ∀ k : Int, 0 ≤ k → k < n → 0 ≤ f k ∧ f k ≤ M) : 0 ≤ sm f n.toNat ∧ sm f n.toNat ≤ M * n := by
  have h1 := sm_b M n.toNat (fun k h0 h1 => h k h0 (by omega))
  rw [Int.toNat_of_nonneg h0] at h1
  exact h1
theorem sm_up {f : Int → Int} {j v : Int} (n : Nat) (h0 : 0 ≤ j) (h1 : j < n) : sm (upI f j v) n = sm f n + v - f j := by
  induction n with
  | zero => omega
  | succ n ih =>
    show sm (upI f j v) n + upI f j v n = sm f n + f n + v - f j
    by_cases h : j = n
    · have e : sm (upI f j v) n = sm f n := sm_c _ (fun k _ hk => upI_n f (by omega))
      rw [e, ← h, upI_s]
      omega
    · rw [ih (by omega), upI_n f (by omega)]
      omega
theorem sm_upo {f : Int → Int} {j v : Int} (n : Nat) (h1 : (n : Int) ≤ j) : sm (upI f j v) n = sm f n := sm_c _ (fun k _ hk => upI_n f (by omega))
theorem sm_add {f g : Int → Int} (n : Nat) : sm (fun k => f k + g k) n = sm f n + sm g n := by
  induction n with
  | zero => rfl
  | succ n ih =>
    show sm (fun k => f k + g k) n + (f n + g n) = sm f n + f n + (sm g n + g n)
    rw [ih]; omega
theorem sm_mul {f : Int → Int} (c : Int) (n : Nat) : sm (fun k => c * f k) n = c * sm f n := by
  induction n with
  | zero => simp [sm]
  | succ n ih =>
    show sm (fun k => c * f k) n + c * f n = c * (sm f n + f n)
    rw [ih, Int.mul_add]
theorem sm_le {f g : Int → Int} (n : Nat) (h : ∀ k : Int, 0 ≤ k → k < n → f k ≤ g k) : sm f n ≤ sm g n := by
  induction n with
  | zero => exact Int.le_refl _
  | succ n ih =>
    have h1 := ih (fun k h0 h1 => h k h0 (by omega))
    have h2 := h n (by omega) (by omega)
    show sm f n + f n ≤ sm g n + g n
    omega
/-- the first place below n, or -1 -/
noncomputable def ff (p : Int → Prop) : Nat → Int
  | 0 => -1
  | n + 1 => if ff p n = -1 then (@ite _ (p (n : Int)) (Classical.propDecidable _) (n : Int) (-1)) else ff p n
theorem ff_none' {p : Int → Prop} (n : Nat) (h : ∀ j : Int, 0 ≤ j → j < n → ¬ p j) : ff p n = -1 := by
  induction n with
  | zero => rfl
  | succ n ih =>
    unfold ff
    rw [if_pos (ih (fun j h0 h1 => h j h0 (by omega))), if_neg (h n (by omega) (by omega))]
theorem ff_none {p : Int → Prop} {n : Int} (h : ∀ j : Int, 0 ≤ j → j < n → ¬ p j) : ff p n.toNat = -1 := ff_none' _ (fun j h0 h1 => h j h0 (by omega))
theorem ff_hit' {p : Int → Prop} {k : Int} (n : Nat) (h0 : 0 ≤ k) (h1 : k < n) (hp : p k) (h : ∀ j : Int, 0 ≤ j → j < k → ¬ p j) : ff p n = k := by
  induction n with
  | zero => omega
  | succ n ih =>
    unfold ff
    by_cases q : k = n
    · rw [if_pos (ff_none' n (fun j a b => h j a (by omega))), if_pos (q ▸ hp)]
      exact q.symm
    · have e := ih (by omega)
      rw [if_neg (by rw [e]; omega), e]
theorem ff_hit {p : Int → Prop} {n k : Int} (h0 : 0 ≤ k) (h1 : k < n) (hp : p k) (h : ∀ j : Int, 0 ≤ j → j < k → ¬ p j) : ff p n.toNat = k := ff_hit' _ h0 (by omega) hp h
theorem ff_spec' {p : Int → Prop} (n : Nat) : (ff p n = -1 ∧ ∀ j : Int, 0 ≤ j → j < n → ¬ p j) ∨ (0 ≤ ff p n ∧ ff p n < n ∧ p (ff p n) ∧ ∀ j : Int, 0 ≤ j → j < ff p n → ¬ p j) := by
  induction n with
  | zero => exact Or.inl ⟨rfl, fun j h0 h1 => by omega⟩
  | succ n ih =>
    rcases ih with ⟨h1, h2⟩ | ⟨h1, h2, h3, h4⟩
    · by_cases q : p n
      · have e : ff p (n + 1) = n := ff_hit' (n + 1) (by omega) (by omega) q h2
        rw [e]
        exact Or.inr ⟨by omega, by omega, q, h2⟩
      · have hh : ∀ j : Int, 0 ≤ j → j < (n + 1 : Nat) → ¬ p j := fun j a b => by
          by_cases z : j = n
          · rw [z]; exact q
          · exact h2 j a (by omega)
        exact Or.inl ⟨ff_none' _ hh, hh⟩
    · have e : ff p (n + 1) = ff p n := ff_hit' (n + 1) h1 (by omega) h3 h4
      rw [e]
      exact Or.inr ⟨h1, by omega, h3, h4⟩
theorem ff_spec (p : Int → Prop) (n : Int) : (ff p n.toNat = -1 ∧ ∀ j : Int, 0 ≤ j → j < n → ¬ p j) ∨ (0 ≤ ff p n.toNat ∧ ff p n.toNat < n ∧ p (ff p n.toNat) ∧ ∀ j : Int, 0 ≤ j → j < ff p n.toNat → ¬ p j) := by
  rcases ff_spec' (p := p) n.toNat with ⟨h1, h2⟩ | ⟨h1, h2, h3, h4⟩
  · exact Or.inl ⟨h1, fun j a b => h2 j a (by omega)⟩
  · exact Or.inr ⟨h1, by omega, h3, h4⟩
theorem ff_c {p q : Int → Prop} {n : Int} (h : ∀ j : Int, 0 ≤ j → j < n → (p j ↔ q j)) : ff p n.toNat = ff q n.toNat := by
  rcases ff_spec q n with ⟨h1, h2⟩ | ⟨h1, h2, h3, h4⟩
  · rw [h1]; exact ff_none (fun j a b z => h2 j a b ((h j a b).mp z))
  · exact ff_hit h1 h2 ((h _ h1 h2).mpr h3) (fun j a b z => h4 j a b ((h j a (by omega)).mp z))
/-- how many of the first n places hold v -/
noncomputable def cnt (L : Int → Int) (n v : Int) : Int := sm (fun c => b2i (L c = v)) n.toNat
theorem cnt_b (L : Int → Int) {n : Int} (v : Int) (h : 0 ≤ n) : 0 ≤ cnt L n v ∧ cnt L n v ≤ n := by
  have := sm_bi (f := fun c => b2i (L c = v)) 1 h (fun k _ _ => by rcases b2i_01 (L k = v) with q | q <;> (show 0 ≤ b2i (L k = v) ∧ b2i (L k = v) ≤ 1) <;> omega)
  unfold cnt
  omega
theorem cnt_up {L : Int → Int} {n j v w : Int} (h0 : 0 ≤ j) (h1 : j < n) (hw : L j ≠ w) : cnt (upI L j v) n w = cnt L n w + (if v = w then 1 else 0) := by
  unfold cnt
  have e : sm (fun c => b2i (upI L j v c = w)) n.toNat = sm (upI (fun c => b2i (L c = w)) j (b2i (v = w))) n.toNat := sm_c _ (fun k _ _ => by
    by_cases q : k = j
    · rw [q, upI_s, upI_s]
    · rw [upI_n _ q, upI_n _ q])
  rw [e, sm_up _ h0 (by omega)]
  have e2 : b2i (L j = w) = 0 := b2i_f hw
  rw [e2]
  by_cases q : v = w
  · rw [if_pos q, b2i_t q]; omega
  · rw [if_neg q, b2i_f q]; omega
theorem cnt_c {L M : Int → Int} {n v : Int} (h : ∀ k : Int, 0 ≤ k → k < n → L k = M k) : cnt L n v = cnt M n v := sm_ci (fun k a b => by show b2i (L k = v) = b2i (M k = v); rw [h k a b])
theorem cnt_0 {L : Int → Int} {n v : Int} (h : ∀ k : Int, 0 ≤ k → k < n → L k ≠ v) : cnt L n v = 0 := by
  unfold cnt
  rw [sm_ci (g := fun _ => 0) (fun k a b => b2i_f (h k a b))]
  have := sm_mul (f := fun _ => 0) 0 n.toNat
  have e : sm (fun _ => (0 : Int)) n.toNat = 0 := by
    generalize n.toNat = m
    induction m with
    | zero => rfl
    | succ m ih => show sm (fun _ => (0 : Int)) m + 0 = 0; rw [ih]; rfl
  exact e
theorem sm_pos {f : Int → Int} (n : Nat) {k : Int} (h : ∀ k : Int, 0 ≤ k → k < n → 0 ≤ f k) (h0 : 0 ≤ k) (h1 : k < n) : f k ≤ sm f n := by
  induction n with
  | zero => omega
  | succ n ih =>
    have hn := h n (by omega) (by omega)
    show f k ≤ sm f n + f n
    by_cases q : k = n
    · have : 0 ≤ sm f n := by
        have hh : ∀ (m : Nat), m ≤ n → 0 ≤ sm f m := by
          intro m
          induction m with
          | zero => intro _; exact Int.le_refl _
          | succ m im =>
            intro hm
            have h1 := im (by omega)
            have h2 := h m (by omega) (by omega)
            show 0 ≤ sm f m + f m
            omega
        exact hh n (Nat.le_refl n)
      rw [q]
      omega
    · have := ih (fun j a b => h j a (by omega)) (by omega)
      omega
/-- places of a state that a step leaves -/
def Keep (P : Nat → Int → Prop) (s t : Sg) : Prop := ∀ (k : Nat) (j : Int), ¬ P k j → t k j = s k j
theorem ok_X0_in {a b c : Int} {Q : Int → Prop} (ha : Rg a) (hb : Rg b) (hc : Rg c) (h1 : b ≤ a → a ≤ c → Q 1) (h0 : ¬ (b ≤ a ∧ a ≤ c) → Q 0) : wp_X0_in a b c Q :=
  ⟨ha, hb, fun q => h0 (by omega), fun q => ⟨ha, hc, fun q2 => h0 (by omega), fun q2 => h1 q q2⟩⟩
theorem ok_X2_in {a b c : Int} {Q : Int → Prop} (ha : RgL a) (hb : RgL b) (hc : RgL c) (h1 : b ≤ a → a ≤ c → Q 1) (h0 : ¬ (b ≤ a ∧ a ≤ c) → Q 0) : wp_X2_in a b c Q :=
  ⟨ha, hb, fun q => h0 (by omega), fun q => ⟨ha, hc, fun q2 => h0 (by omega), fun q2 => h1 q q2⟩⟩
theorem up_at (s : Sg) (k k' : Nat) (j j' z : Int) : up s k j z k' j' = if k' = k ∧ j' = j then z else s k' j' := by
  unfold up upI
  by_cases h : k' = k
  · subst h
    rw [if_pos rfl]
    by_cases h2 : j' = j
    · rw [if_pos h2, if_pos ⟨rfl, h2⟩]
    · rw [if_neg h2, if_neg (fun q => h2 q.2)]
  · rw [if_neg h, if_neg (fun q => h q.1)]
