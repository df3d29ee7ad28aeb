/-! PLAIN LAWS, 5: sorts: what leads from chord to chord, the one numbering of its classes -/
def Inv (E : Int → Int → Int) (l m : Int) (f : Int → Int) : Prop := ∀ i : Int, 0 ≤ i → i < l → ∀ c : Int, 0 ≤ c → c < m → f (E i c) = f c
def First (L : Int → Int) (c : Int) : Prop := ∀ e : Int, 0 ≤ e → e < c → L e ≠ L c
/-- the classes of what E joins, numbered by their first members -/
def SortOk (E : Int → Int → Int) (l m : Int) (L : Int → Int) (g : Int) : Prop :=
  (∀ c : Int, 0 ≤ c → c < m → 0 ≤ L c ∧ L c < g) ∧ (∀ j : Int, 0 ≤ j → j < g → ∃ c : Int, 0 ≤ c ∧ c < m ∧ L c = j) ∧ Inv E l m L ∧
  (∀ f : Int → Int, Inv E l m f → ∀ c d : Int, 0 ≤ c → c < m → 0 ≤ d → d < m → L c = L d → f c = f d) ∧
  (∀ c d : Int, 0 ≤ c → c < d → d < m → First L c → First L d → L c < L d)
/-- each class has a first member -/
theorem first_of (L : Int → Int) (m : Int) {c : Int} (h0 : 0 ≤ c) (h1 : c < m) : ∃ d : Int, 0 ≤ d ∧ d ≤ c ∧ L d = L c ∧ First L d := by
  rcases ff_spec (fun d => L d = L c) (c + 1) with ⟨-, h⟩ | ⟨a, b, h2, h3⟩
  · exact absurd rfl (h c h0 (by omega))
  · exact ⟨_, a, by omega, h2, fun e e0 e1 q => h3 e e0 e1 (q.trans h2)⟩
theorem sort_half {E : Int → Int → Int} {l m : Int} {L M : Int → Int} {g h : Int} (hL : SortOk E l m L g) (hM : SortOk E l m M h) (c : Int) (h0 : 0 ≤ c) (h1 : c < m) (ih : ∀ d : Int, 0 ≤ d → d < c → L d = M d) (hF : First L c) (hF2 : First M c) (hlt : L c < M c) : False := by
  obtain ⟨a1, a2, a3, a4, a5⟩ := hL
  obtain ⟨b1, b2, b3, b4, b5⟩ := hM
  obtain ⟨x, x0, x1, x2⟩ := b2 (L c) (a1 c h0 h1).1 (by have := b1 c h0 h1; omega)
  obtain ⟨d, d0, d1, d2, d3⟩ := first_of M m x0 x1
  have hdm : d < m := by omega
  have hMd : M d = L c := d2.trans x2
  rcases Int.lt_or_le d c with q | q
  · have e1 := ih d d0 q
    exact hF d d0 q (e1.trans hMd)
  · rcases Int.lt_or_eq_of_le q with q | q
    · have := b5 c d h0 q hdm hF2 d3
      omega
    · rw [← q] at hMd
      omega
theorem sort_eq {E : Int → Int → Int} {l m : Int} {L M : Int → Int} {g h : Int} (hL : SortOk E l m L g) (hM : SortOk E l m M h) : ∀ c : Int, 0 ≤ c → c < m → L c = M c := by
  have key : ∀ n : Nat, ∀ c : Int, 0 ≤ c → c < m → c < n → L c = M c := by
    intro n
    induction n with
    | zero => intro c h0 h1 h2; omega
    | succ n ih =>
      intro c h0 h1 h2
      have ih' : ∀ d : Int, 0 ≤ d → d < c → L d = M d := fun d d0 d1 => ih d d0 (by omega) (by omega)
      have hLI := hL.2.2.1
      have hMI := hM.2.2.1
      by_cases hF : First L c
      · have hF2 : First M c := fun e e0 e1 q => hF e e0 e1 (hM.2.2.2.1 L hLI e c e0 (by omega) h0 h1 q)
        rcases Int.lt_trichotomy (L c) (M c) with q | q | q
        · exact (sort_half hL hM c h0 h1 ih' hF hF2 q).elim
        · exact q
        · exact (sort_half hM hL c h0 h1 (fun d d0 d1 => (ih' d d0 d1).symm) hF2 hF q).elim
      · obtain ⟨d, d0, d1, d2, d3⟩ := first_of L m h0 h1
        have hd : d ≠ c := fun q => hF (q ▸ d3)
        have e1 := ih' d d0 (by omega)
        have e2 := hL.2.2.2.1 M hMI d c d0 (by omega) h0 h1 d2
        rw [← d2, e1, e2]
  intro c h0 h1
  exact key (c.toNat + 1) c h0 h1 (by omega)
theorem sort_eqn {E : Int → Int → Int} {l m : Int} {L M : Int → Int} {g h : Int} (hg : 0 ≤ g) (hh : 0 ≤ h) (hL : SortOk E l m L g) (hM : SortOk E l m M h) : g = h := by
  have he := sort_eq hL hM
  rcases Int.lt_trichotomy g h with q | q | q
  · obtain ⟨c, c0, c1, c2⟩ := hM.2.1 g hg q
    have := hL.1 c c0 c1
    rw [he c c0 c1] at this
    omega
  · exact q
  · obtain ⟨c, c0, c1, c2⟩ := hL.2.1 h hh q
    have := hM.1 c c0 c1
    rw [← he c c0 c1] at this
    omega
theorem sort_c {E E2 : Int → Int → Int} {l m : Int} {L M : Int → Int} {g : Int} (hE : ∀ i c : Int, 0 ≤ i → i < l → 0 ≤ c → c < m → E i c = E2 i c ∧ 0 ≤ E i c ∧ E i c < m) (hLM : ∀ c : Int, 0 ≤ c → c < m → L c = M c) (h : SortOk E l m L g) : SortOk E2 l m M g := by
  obtain ⟨a1, a2, a3, a4, a5⟩ := h
  have hF : ∀ c : Int, 0 ≤ c → c < m → First M c → First L c := fun c c0 c1 q e e0 e1 z => q e e0 e1 (by rw [← hLM e e0 (by omega), ← hLM c c0 c1]; exact z)
  refine ⟨fun c c0 c1 => by rw [← hLM c c0 c1]; exact a1 c c0 c1, fun j j0 j1 => ?_, fun i i0 i1 c c0 c1 => ?_, fun f hf c d c0 c1 d0 d1 q => ?_, fun c d c0 cd d1 f1 f2 => ?_⟩
  · obtain ⟨c, c0, c1, c2⟩ := a2 j j0 j1
    exact ⟨c, c0, c1, by rw [← hLM c c0 c1]; exact c2⟩
  · obtain ⟨e1, e2, e3⟩ := hE i c i0 i1 c0 c1
    rw [← e1, ← hLM _ e2 e3, ← hLM c c0 c1]
    exact a3 i i0 i1 c c0 c1
  · refine a4 f (fun i i0 i1 c c0 c1 => ?_) c d c0 c1 d0 d1 (by rw [hLM c c0 c1, hLM d d0 d1]; exact q)
    rw [(hE i c i0 i1 c0 c1).1]
    exact hf i i0 i1 c c0 c1
  · rw [← hLM c c0 (by omega), ← hLM d (by omega) d1]
    exact a5 c d c0 cd d1 (hF c c0 (by omega) f1) (hF d (by omega) d1 f2)
/-! the likenesses' steps -/
def itr (f : Int → Int) : Nat → Int → Int
  | 0, x => x
  | n + 1, x => itr f n (f x)
theorem itr_s (f : Int → Int) (n : Nat) (x : Int) : itr f (n + 1) x = f (itr f n x) := by
  induction n generalizing x with
  | zero => rfl
  | succ n ih => exact ih (f x)
def LV (l : Int) (K A B : Int → Int) : Prop := 0 ≤ l ∧ l ≤ 4 ∧ ∀ i : Int, 0 ≤ i → i < l → (-1 ≤ A i ∧ A i ≤ 8 ∧ -1 ≤ B i ∧ B i ≤ 8) ∧ ((K i = 1 ∧ 1 ≤ A i) ∨ K i = 2 ∨ (K i = 3 ∧ 0 ≤ A i ∧ 0 ≤ B i ∧ A i ≠ B i))
def Lk (K A B : Int → Int) (n i st : Int) : Int := lkS (K i) (A i) (B i) st n
theorem Lk_in {l n i st : Int} {K A B : Int → Int} (V : LV l K A B) (i0 : 0 ≤ i) (i1 : i < l) (h0 : 0 ≤ st) (h1 : st < n) : 0 ≤ Lk K A B n i st ∧ Lk K A B n i st < n := by
  obtain ⟨b, h⟩ := V.2.2 i i0 i1
  unfold Lk lkS
  rcases h with ⟨k, a⟩ | k | ⟨k, a, bb, ab⟩
  · rw [if_pos k]
    exact ⟨Int.emod_nonneg _ (by omega), Int.emod_lt_of_pos _ (by omega)⟩
  · rw [if_neg (by omega), if_pos k]
    omega
  · rw [if_neg (by omega), if_neg (by omega)]
    split
    · omega
    · split
      · omega
      · split <;> omega
theorem itr_in {f : Int → Int} {n : Int} (hf : ∀ x : Int, 0 ≤ x → x < n → 0 ≤ f x ∧ f x < n) (p : Nat) {x : Int} (h0 : 0 ≤ x) (h1 : x < n) : 0 ≤ itr f p x ∧ itr f p x < n := by
  induction p generalizing x with
  | zero => exact ⟨h0, h1⟩
  | succ p ih =>
    have := hf x h0 h1
    exact ih this.1 this.2
theorem Lk_per {l n i : Int} {K A B : Int → Int} (V : LV l K A B) (i0 : 0 ≤ i) (i1 : i < l) (hn : 3 ≤ n) : ∃ p : Nat, ∀ st : Int, 0 ≤ st → st < n → itr (Lk K A B n i) (p + 1) st = st := by
  obtain ⟨b, h⟩ := V.2.2 i i0 i1
  rcases h with ⟨k, a⟩ | k | ⟨k, a, bb, ab⟩
  · have hs : ∀ (j : Nat) (st : Int), 0 ≤ st → st < n → itr (Lk K A B n i) j st = (st + j * A i) % n := by
      intro j
      induction j with
      | zero => intro st h0 h1; show st = _; rw [Int.natCast_zero, Int.zero_mul, Int.add_zero, Int.emod_eq_of_lt h0 h1]
      | succ j ih =>
        intro st h0 h1
        rw [itr_s, ih st h0 h1]
        unfold Lk lkS
        rw [if_pos k, Int.emod_add_emod, Int.natCast_succ, Int.add_mul, Int.one_mul, Int.add_assoc]
    refine ⟨n.toNat - 1, fun st h0 h1 => ?_⟩
    rw [show n.toNat - 1 + 1 = n.toNat by omega, hs _ st h0 h1, Int.toNat_of_nonneg (by omega), Int.add_mul_emod_self_left, Int.emod_eq_of_lt h0 h1]
  · refine ⟨1, fun st h0 h1 => ?_⟩
    show Lk K A B n i (Lk K A B n i st) = st
    unfold Lk lkS
    rw [if_neg (by omega), if_pos k, if_neg (by omega), if_pos k]
    omega
  · refine ⟨1, fun st h0 h1 => ?_⟩
    show Lk K A B n i (Lk K A B n i st) = st
    have e : ∀ x : Int, Lk K A B n i x = if n ≤ A i ∨ n ≤ B i then x else if x = A i then B i else if x = B i then A i else x := fun x => by
      unfold Lk lkS
      rw [if_neg (by omega), if_neg (by omega)]
    rw [e (Lk K A B n i st), e st]
    by_cases q : n ≤ A i ∨ n ≤ B i
    · rw [if_pos q, if_pos q]
    · rw [if_neg q, if_neg q]
      by_cases q2 : st = A i
      · rw [if_pos q2, if_neg (by omega), if_pos rfl]
        exact q2.symm
      · rw [if_neg q2]
        by_cases q3 : st = B i
        · rw [if_pos q3, if_pos rfl]
          exact q3.symm
        · rw [if_neg q3, if_neg q2, if_neg q3]
theorem Lk_inj {l n i x y : Int} {K A B : Int → Int} (V : LV l K A B) (i0 : 0 ≤ i) (i1 : i < l) (hn : 3 ≤ n) (x0 : 0 ≤ x) (x1 : x < n) (y0 : 0 ≤ y) (y1 : y < n) (h : Lk K A B n i x = Lk K A B n i y) : x = y := by
  obtain ⟨p, hp⟩ := Lk_per V i0 i1 hn
  rw [← hp x x0 x1, ← hp y y0 y1]
  show itr _ p (Lk K A B n i x) = itr _ p (Lk K A B n i y)
  rw [h]
theorem dst_map {n x y z : Int} {S : Int → Int} (hin : ∀ w : Int, 0 ≤ w → w < n → 0 ≤ S w ∧ S w < n) (hinj : ∀ v w : Int, 0 ≤ v → v < n → 0 ≤ w → w < n → S v = S w → v = w) (h : dst n x y z) : dst n (S x) (S y) (S z) := by
  obtain ⟨a, b, c, d, e, f, g1, g2, g3⟩ := h
  have h1 := hin x a b
  have h2 := hin y c d
  have h3 := hin z e f
  exact ⟨h1.1, h1.2, h2.1, h2.2, h3.1, h3.2, fun q => g1 (hinj _ _ a b c d q), fun q => g2 (hinj _ _ a b e f q), fun q => g3 (hinj _ _ c d e f q)⟩
/-- as what chord c sounds -/
def Ed (K A B : Int → Int) (n i c : Int) : Int := num n (Lk K A B n i (tp n c 0)) (Lk K A B n i (tp n c 1)) (Lk K A B n i (tp n c 2))
theorem Ed_dst {l n i c : Int} {K A B : Int → Int} (V : LV l K A B) (i0 : 0 ≤ i) (i1 : i < l) (hn : 3 ≤ n) (hn2 : n ≤ 10) (c0 : 0 ≤ c) (c1 : c < C3 n) : dst n (Lk K A B n i (tp n c 0)) (Lk K A B n i (tp n c 1)) (Lk K A B n i (tp n c 2)) :=
  dst_map (fun w w0 w1 => Lk_in V i0 i1 w0 w1) (fun v w v0 v1 w0 w1 q => Lk_inj V i0 i1 hn v0 v1 w0 w1 q) (dst_tp hn2 c0 c1)
theorem Ed_in {l n i c : Int} {K A B : Int → Int} (V : LV l K A B) (i0 : 0 ≤ i) (i1 : i < l) (hn : 3 ≤ n) (hn2 : n ≤ 10) (c0 : 0 ≤ c) (c1 : c < C3 n) : 0 ≤ Ed K A B n i c ∧ Ed K A B n i c < C3 n :=
  num_in hn2 (Ed_dst V i0 i1 hn hn2 c0 c1)
theorem Ed_itr {l n i c : Int} {K A B : Int → Int} (V : LV l K A B) (i0 : 0 ≤ i) (i1 : i < l) (hn : 3 ≤ n) (hn2 : n ≤ 10) (c0 : 0 ≤ c) (c1 : c < C3 n) (p : Nat) : itr (Ed K A B n i) p c = num n (itr (Lk K A B n i) p (tp n c 0)) (itr (Lk K A B n i) p (tp n c 1)) (itr (Lk K A B n i) p (tp n c 2)) ∧ dst n (itr (Lk K A B n i) p (tp n c 0)) (itr (Lk K A B n i) p (tp n c 1)) (itr (Lk K A B n i) p (tp n c 2)) := by
  induction p with
  | zero => exact ⟨(num_tp hn2 c0 c1).symm, dst_tp hn2 c0 c1⟩
  | succ p ih =>
    obtain ⟨h1, h2⟩ := ih
    rw [itr_s, itr_s, itr_s, itr_s, h1]
    exact ⟨num_map hn2 h2 _, dst_map (fun w w0 w1 => Lk_in V i0 i1 w0 w1) (fun v w v0 v1 w0 w1 q => Lk_inj V i0 i1 hn v0 v1 w0 w1 q) h2⟩
theorem Ed_per {l n i : Int} {K A B : Int → Int} (V : LV l K A B) (i0 : 0 ≤ i) (i1 : i < l) (hn : 3 ≤ n) (hn2 : n ≤ 10) : ∃ p : Nat, ∀ c : Int, 0 ≤ c → c < C3 n → itr (Ed K A B n i) (p + 1) c = c := by
  obtain ⟨p, hp⟩ := Lk_per V i0 i1 hn
  refine ⟨p, fun c c0 c1 => ?_⟩
  have ht := dst_tp hn2 c0 c1
  obtain ⟨a, b, c', d, e, f, -⟩ := ht
  rw [(Ed_itr V i0 i1 hn hn2 c0 c1 (p + 1)).1, hp _ a b, hp _ c' d, hp _ e f, num_tp hn2 c0 c1]
/-- a set that E leads into itself: what is led into it was in it -/
theorem Ed_back {l n i c : Int} {K A B : Int → Int} (V : LV l K A B) (i0 : 0 ≤ i) (i1 : i < l) (hn : 3 ≤ n) (hn2 : n ≤ 10) {P : Int → Prop} (hP : ∀ x : Int, 0 ≤ x → x < C3 n → P x → P (Ed K A B n i x)) (c0 : 0 ≤ c) (c1 : c < C3 n) (h : P (Ed K A B n i c)) : P c := by
  obtain ⟨p, hp⟩ := Ed_per V i0 i1 hn hn2
  have key : ∀ (j : Nat) (x : Int), 0 ≤ x → x < C3 n → P x → P (itr (Ed K A B n i) j x) := by
    intro j
    induction j with
    | zero => intro x _ _ h; exact h
    | succ j ih =>
      intro x x0 x1 hx
      have := Ed_in V i0 i1 hn hn2 x0 x1
      exact ih _ this.1 this.2 (hP x x0 x1 hx)
  have he := Ed_in V i0 i1 hn hn2 c0 c1
  have := key p _ he.1 he.2 h
  have e : itr (Ed K A B n i) p (Ed K A B n i c) = c := hp c c0 c1
  rw [e] at this
  exact this
