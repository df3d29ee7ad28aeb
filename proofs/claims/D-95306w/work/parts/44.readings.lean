/-! PLAIN LAWS, 25: readings -/
def INp (p : Int × (Int → Int)) (v : Int) : Prop := ∃ j : Int, 0 ≤ j ∧ j < p.1 ∧ p.2 j = v
theorem IN_dad {p : Int × (Int → Int)} {v w : Int} (h : INp p v) : INp (dad w p) v := by
  obtain ⟨j, j0, j1, j2⟩ := h
  by_cases q : ff (fun j => p.2 j = w) p.1.toNat = -1
  · rw [dad_n q]
    refine ⟨j, j0, by show j < p.1 + 1; omega, ?_⟩
    show upI p.2 p.1 w j = v
    rw [upI_n _ (by omega)]; exact j2
  · rw [dad_o q]; exact ⟨j, j0, j1, j2⟩
theorem IN_self {p : Int × (Int → Int)} {v : Int} (p0 : 0 ≤ p.1) : INp (dad v p) v := by
  by_cases q : ff (fun j => p.2 j = v) p.1.toNat = -1
  · rw [dad_n q]
    exact ⟨p.1, p0, by show p.1 < p.1 + 1; omega, upI_s _ _ _⟩
  · rw [dad_o q]
    rcases ff_spec (fun j => p.2 j = v) p.1 with ⟨a, -⟩ | ⟨a, b, c, -⟩
    · exact absurd a q
    · exact ⟨_, a, b, c⟩
theorem IN_dro {p : Int × (Int → Int)} {v : Int} {L row : Int → Int} (n : Nat) (h : INp p v) : INp (dro L row n p) v := by
  induction n with
  | zero => exact h
  | succ n ih => exact IN_dad ih
theorem IN_row {p : Int × (Int → Int)} {L row : Int → Int} (p0 : 0 ≤ p.1) (n : Nat) {j : Int} (j0 : 0 ≤ j) (j1 : j < n) : INp (dro L row n p) (L (row j)) := by
  induction n with
  | zero => omega
  | succ n ih =>
    show INp (dad (L (row n)) (dro L row n p)) _
    by_cases q : j = n
    · rw [q]
      exact IN_self (by have := (dro_b L row p n).1; omega)
    · exact IN_dad (ih (by omega))
theorem IN_dsh {L sc : Int → Int} {sk : Int → Int → Int} (n : Nat) {i j : Int} (i0 : 0 ≤ i) (i1 : i < n) (j0 : 0 ≤ j) (j1 : j < sc i) : INp (dsh L sc sk n) (L (sk i j)) := by
  induction n with
  | zero => omega
  | succ n ih =>
    show INp (dro L (sk n) (sc n).toNat (dsh L sc sk n)) _
    by_cases q : i = n
    · rw [q] at j1 ⊢
      exact IN_row (dsh_0 _ _ _ _) _ j0 (by omega)
    · exact IN_dro _ (ih (by omega))
section
variable {s t : Sg} {i a b c : Int}
/-- all that is told -/
noncomputable def tl (s : Sg) : Int × (Int → Int) := dls s (s 0 14)
noncomputable def plc (s : Sg) (v : Int) : Int := ff (fun j => (tl s).2 j = v) (tl s).1.toNat
theorem tl_b (G : GX s) : 0 ≤ (tl s).1 ∧ (tl s).1 ≤ 12 := ⟨(G.dv (Int.le_refl _)).1, G.d12 (Int.le_refl _)⟩
theorem tl_v (G : GX s) {k : Int} (k0 : 0 ≤ k) (k1 : k < (tl s).1) : 0 ≤ (tl s).2 k ∧ (tl s).2 k < s 1 2 := (G.dv (Int.le_refl _)).2 k k0 k1
theorem plc_b (G : GX s) (v : Int) : plc s v = -1 ∨ (0 ≤ plc s v ∧ plc s v < (tl s).1) := by
  rcases ff_spec (fun j => (tl s).2 j = v) (tl s).1 with ⟨a, -⟩ | ⟨a, b, -⟩
  · exact Or.inl a
  · exact Or.inr ⟨a, b⟩
theorem plc_in (G : GX s) {i j : Int} (i0 : 0 ≤ i) (i1 : i < s 0 14) (j0 : 0 ≤ j) (j1 : j < s 8 i) : 0 ≤ plc s (s 19 (s (26 + i.toNat) j)) ∧ plc s (s 19 (s (26 + i.toNat) j)) < (tl s).1 := by
  obtain ⟨k, k0, k1, k2⟩ := IN_dsh (L := s 19) (sc := s 8) (sk := fun i => s (26 + i.toNat)) (s 0 14).toNat i0 (by omega) j0 j1
  rcases ff_spec (fun j' => (tl s).2 j' = s 19 (s (26 + i.toNat) j)) (tl s).1 with ⟨-, h⟩ | ⟨a, b, -⟩
  · exact absurd k2 (h k k0 k1)
  · exact ⟨a, b⟩
/-- the bits of sheet i, its first j chords -/
noncomputable def stb (s : Sg) (i : Int) : Nat → Int
  | 0 => 0
  | j + 1 => bor (stb s i j) ((1 : Int) * 2 ^ (plc s (s 19 (s (26 + i.toNat) (j : Int)))).toNat)
theorem stb_0 (s : Sg) (i : Int) (j : Nat) : 0 ≤ stb s i j := by
  cases j with
  | zero => exact Int.le_refl _
  | succ j => exact bor_nn _ _
theorem stb_s (s : Sg) (i : Int) {j : Int} (h : 0 ≤ j) : stb s i (j + 1).toNat = bor (stb s i j.toNat) ((1 : Int) * 2 ^ (plc s (s 19 (s (26 + i.toNat) j))).toNat) := by
  have e : (j + 1).toNat = j.toNat + 1 := by omega
  rw [e]
  show bor (stb s i j.toNat) ((1 : Int) * 2 ^ (plc s (s 19 (s (26 + i.toNat) ((j.toNat : Nat) : Int)))).toNat) = _
  rw [Int.toNat_of_nonneg h]
def rds (s : Sg) (x n : Int) : Prop := ∀ i : Int, 0 ≤ i → i < n → pop 12 (band x (stb s i (s 8 i).toNat)) = s 9 i
def rdl (s : Sg) (x n : Int) : Prop := ∀ k : Int, 0 ≤ k → k < n → lf s ((tl s).2 k) = 0 → bq x k
def rdg (s : Sg) (x : Int) : Prop := rdl s x (tl s).1 ∧ rds s x (s 0 14)
theorem rds_s {x n : Int} (n0 : 0 ≤ n) : rds s x (n + 1) ↔ (rds s x n ∧ pop 12 (band x (stb s n (s 8 n).toNat)) = s 9 n) := by
  constructor
  · exact fun h2 => ⟨fun j j0 j1 => h2 j j0 (by omega), h2 n n0 (by omega)⟩
  · rintro ⟨h1, h2⟩ j j0 j1
    by_cases z : j = n
    · rw [z]; exact h2
    · exact h1 j j0 (by omega)
theorem rdl_s {x n : Int} (n0 : 0 ≤ n) : rdl s x (n + 1) ↔ (rdl s x n ∧ (lf s ((tl s).2 n) = 0 → bq x n)) := by
  constructor
  · exact fun h2 => ⟨fun j j0 j1 => h2 j j0 (by omega), h2 n n0 (by omega)⟩
  · rintro ⟨h1, h2⟩ j j0 j1
    by_cases z : j = n
    · rw [z]; exact h2
    · exact h1 j j0 (by omega)
noncomputable def rct (s : Sg) (X : Int) : Int := sm (fun x => b2i (rdg s x)) X.toNat
noncomputable def sil (s : Sg) (k X : Int) : Int := sm (fun x => b2i (rdg s x ∧ ¬ bq x k)) X.toNat
theorem rct_b (s : Sg) {X : Int} (h : 0 ≤ X) : 0 ≤ rct s X ∧ rct s X ≤ X := by
  have := sm_bi (f := fun x => b2i (rdg s x)) 1 h (fun k _ _ => b2i_r _)
  unfold rct; omega
theorem sil_b (s : Sg) (k : Int) {X : Int} (h : 0 ≤ X) : 0 ≤ sil s k X ∧ sil s k X ≤ X := by
  have := sm_bi (f := fun x => b2i (rdg s x ∧ ¬ bq x k)) 1 h (fun k _ _ => b2i_r _)
  unfold sil; omega
theorem band_le {x y : Int} (x0 : 0 ≤ x) : band x y ≤ x := by
  unfold band
  have : x.toNat &&& y.toNat ≤ x.toNat := Nat.and_le_left
  omega
theorem band_cm (x y : Int) : band x y = band y x := by unfold band; rw [Nat.and_comm]
/-- all states of what is told -/
noncomputable def pw (s : Sg) : Int := (1 : Int) * 2 ^ (tl s).1.toNat
theorem pw_b (G : GX s) : 1 ≤ pw s ∧ pw s ≤ 4096 := pow_12 (tl_b G).1 (tl_b G).2
theorem ok_X0_isReading {x : Int} {u : Sg} {Q : Int → Prop} (G : GX s) (X : XS s u) (x0 : 0 ≤ x) (x1 : x < 4096) (hb : ∀ i : Int, 0 ≤ i → i < s 0 14 → u 11 i = stb s i (s 8 i).toNat) (hQ : Q (b2i (rds s x (s 0 14)))) : wp_X0_isReading x u Q := by
  have hg := G.b
  unfold wp_X0_isReading
  rw [X.sh, X.sw]
  refine ⟨fun f k => 0 ≤ k ∧ k ≤ s 0 14 ∧ f = b2i (rds s x k), fun f k => (s 0 14 - k).toNat, ⟨by omega, by omega, (b2i_t (fun j j0 j1 => by omega)).symm⟩, fun f k ⟨k0, k1, hf⟩ => ⟨by omega, by omega, fun h => ?_, fun h => ?_⟩⟩
  · have e : k = s 0 14 := by omega
    rw [e] at hf
    rw [hf]; exact ⟨b2i_01 _, hQ⟩
  · have hs := G.sc k0 h
    have hst := stb_0 s k (s 8 k).toNat
    rw [hb k k0 h]
    refine ⟨k0, by omega, x0, hst, ?_⟩
    have hl := band_le (y := stb s k (s 8 k).toNat) x0
    refine ok_bitCount (band_nn _ _) (by omega) ?_
    have hp := pop_b 12 (band x (stb s k (s 8 k).toNat))
    refine ⟨k0, by omega, by omega, by omega, ?_⟩
    refine jn1_v (b2i (pop 12 (band x (stb s k (s 8 k).toNat)) = s 9 k)) (fun K hK => ⟨fun w => ?_, fun w => ?_⟩) ?_
    · rw [b2i_f w] at hK; exact hK
    · rw [b2i_t w] at hK; exact hK
    have q1 := b2i_r (rds s x k)
    have q2 := b2i_r (pop 12 (band x (stb s k (s 8 k).toNat)) = s 9 k)
    refine ⟨by omega, by omega, ⟨⟨by omega, by omega, ?_⟩, by dsimp only; omega⟩⟩
    rw [hf, band_b]
    exact b2i_c (rds_s k0).symm
theorem dls_XS (X : XS s t) {k : Int} (k5 : k ≤ 5) : dls t k = dls s k := by
  unfold dls
  rw [X.L]
  exact dsh_c (fun i _ _ => by rw [X.sc]) (fun i i0 i1 j _ _ => by rw [X.sk i0 (by omega)])
theorem ok_X0_doubts {Q : Sg → Prop} (G : GX s) (X : XS s t) (hQ : ∀ u : Sg, DR (tl s) u → (∀ (k : Nat) (j : Int), ¬ (k = 10 ∨ (k = 0 ∧ j = 16)) → u k j = t k j) → Q u) : wp_X0_layDoubts (t 0 14) t Q := by
  have hg := G.b
  have G' := GX_XS G X
  have hg' := G'.b
  have e14 := X.sh
  refine ok_X0_layDoubts (g := t 1 2) (by omega) (by omega) (by omega) (fun i i0 i1 => ?_) (fun i i0 i1 => G'.d12 (show i ≤ t 0 14 by omega)) (fun u D F => hQ u ?_ F)
  · have h1 := G'.sc i0 i1
    refine ⟨by omega, h1.2.1, fun j j0 j1 => ?_⟩
    have := G'.row i0 i1 j0 j1
    exact ⟨⟨this.1, by omega⟩, this.2.2⟩
  · have e : dls t (t 0 14) = tl s := by rw [dls_XS X (by omega), e14]; rfl
    unfold dls at e
    rw [e] at D
    exact D
theorem ok_X0_surely {u : Sg} {Q : Int → Prop} (G : GX s) (X : XS s u) (D : DR (tl s) u) (hQ : ∀ r : Int, 0 ≤ r → (∀ k : Int, 0 ≤ k → (bq r k ↔ (k < (tl s).1 ∧ lf s ((tl s).2 k) = 0))) → Q r) : wp_X0_surely u Q := by
  have hg := G.b
  have ht := tl_b G
  unfold wp_X0_surely
  rw [D.1]
  refine ⟨fun r j => 0 ≤ j ∧ j ≤ (tl s).1 ∧ 0 ≤ r ∧ (∀ k : Int, 0 ≤ k → (bq r k ↔ (k < j ∧ lf s ((tl s).2 k) = 0))), fun r j => ((tl s).1 - j).toNat, ⟨by omega, by omega, by omega, fun k k0 => ⟨fun h => absurd h (bq_0 k), fun h => by omega⟩⟩, fun r j ⟨j0, j1, r0, hr⟩ => ⟨by omega, by omega, fun h => ?_, fun h => ?_⟩⟩
  · have e : j = (tl s).1 := by omega
    rw [e] at hr
    exact hQ r r0 hr
  · have hv := tl_v G j0 h
    rw [D.2 j j0 h]
    refine ⟨j0, by omega, ok_X0_isLeft G X hv.1 hv.2 ?_⟩
    refine jn1_v (if lf s ((tl s).2 j) = 0 then (1 : Int) * 2 ^ (j : Int).toNat else 0) (fun K hK => ⟨fun w => ⟨j0, by omega, ?_⟩, fun w => ?_⟩) ?_
    · rw [if_pos w] at hK; exact hK
    · rw [if_neg w] at hK; exact hK
    have hp := pow_pos1 j.toNat
    refine ⟨r0, by split <;> omega, ⟨⟨by omega, by omega, bor_nn _ _, fun k k0 => ?_⟩, by dsimp only; omega⟩⟩
    rw [bq_or, hr k k0]
    by_cases w : lf s ((tl s).2 j) = 0
    · rw [if_pos w, bq_pow j0 k0]
      constructor
      · rintro (⟨a, b⟩ | a)
        · exact ⟨by omega, b⟩
        · rw [a]; exact ⟨by omega, w⟩
      · rintro ⟨a, b⟩
        by_cases z : k = j
        · exact Or.inr z
        · exact Or.inl ⟨by omega, b⟩
    · rw [if_neg w]
      constructor
      · rintro (⟨a, b⟩ | a)
        · exact ⟨by omega, b⟩
        · exact absurd a (bq_0 k)
      · rintro ⟨a, b⟩
        by_cases z : k = j
        · rw [z] at b; exact absurd b w
        · exact Or.inl ⟨by omega, b⟩
theorem ok_X0_isIn {x k : Int} {Q : Int → Prop} (hx : Rg x) (x0 : 0 ≤ x) (k0 : 0 ≤ k) (k1 : k < 32) (hQ : Q (b2i (bq x k))) : wp_X0_isIn x k Q := by
  unfold wp_X0_isIn
  have hd : 0 ≤ x / 2 ^ (k : Int).toNat := by rw [div_nat x0]; exact Int.natCast_nonneg _
  rw [band_1 k x0]
  have := b2i_r (bq x k)
  refine ⟨hx, k0, k1, hd, by omega, fun w => ?_, fun w => ?_⟩
  · rw [show b2i (bq x k) = 0 by omega] at hQ; exact hQ
  · rw [w] at hQ; exact hQ
theorem ok_X0_bitsOf {u : Sg} {Q : Int → Prop} (G : GX s) (X : XS s u) (D : DR (tl s) u) (i0 : 0 ≤ i) (i1 : i < s 0 14) (hQ : Q (stb s i (s 8 i).toNat)) : wp_X0_bitsOf i u Q := by
  have hg := G.b
  have ht := tl_b G
  have hs := G.sc i0 i1
  unfold wp_X0_bitsOf
  rw [X.sc, X.sk i0 (by omega), X.L]
  refine ⟨fun r j => 0 ≤ j ∧ j ≤ s 8 i ∧ r = stb s i j.toNat, fun r j => (s 8 i - j).toNat, ⟨by omega, by omega, rfl⟩, fun r j ⟨j0, j1, hr⟩ => ⟨i0, by omega, by omega, by omega, fun h => ?_, fun h => ?_⟩⟩
  · have e : j = s 8 i := by omega
    rw [hr, e]; exact hQ
  · obtain ⟨r0, r1, l0, l1⟩ := G.row i0 i1 j0 h
    have hpl := plc_in G i0 i1 j0 h
    have hs0 := stb_0 s i j.toNat
    refine ⟨i0, by omega, j0, by omega, r0, by omega, ?_⟩
    refine ok_X0_doubtOf D (G.dv (Int.le_refl _)) (by omega) (by omega) (by omega) ?_
    have epl : ff (fun k => (tl s).2 k = s 19 (s (26 + i.toNat) j)) (tl s).1.toNat = plc s (s 19 (s (26 + i.toNat) j)) := rfl
    rw [epl]
    refine ⟨hpl.1, by omega, by omega, pow_pos1 _, ⟨⟨by omega, by omega, ?_⟩, by dsimp only; omega⟩⟩
    rw [hr, stb_s s i j0]
end
