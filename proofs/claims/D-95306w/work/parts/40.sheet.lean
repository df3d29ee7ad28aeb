/-! PLAIN LAWS, 21: sheet -/
section
variable {s t : Sg} {i a b c : Int}
/-- the list of the sorts told, of a state of x -/
noncomputable def dls (s : Sg) (k : Int) : Int × (Int → Int) := dsh (s 19) (s 8) (fun i => s (26 + i.toNat)) k.toNat
theorem GX.row (G : GX s) {i j : Int} (i0 : 0 ≤ i) (i1 : i < s 0 14) (j0 : 0 ≤ j) (j1 : j < s 8 i) : 0 ≤ s (26 + i.toNat) j ∧ s (26 + i.toNat) j < s 1 1 ∧ 0 ≤ s 19 (s (26 + i.toNat) j) ∧ s 19 (s (26 + i.toNat) j) < s 1 2 := by
  have h := (G.2.1.2.1.2.2 i i0 i1).2.2.2.2 j j0 j1
  exact ⟨h.1, h.2, G.L h.1 h.2⟩
theorem GX.sc (G : GX s) {i : Int} (i0 : 0 ≤ i) (i1 : i < s 0 14) : 1 ≤ s 8 i ∧ s 8 i ≤ 6 ∧ 0 ≤ s 9 i ∧ s 9 i ≤ 6 := by
  have h := G.2.1.2.1.2.2 i i0 i1
  exact ⟨h.1, h.2.1, h.2.2.1, h.2.2.2.1⟩
theorem GX.dv (G : GX s) {k : Int} (k1 : k ≤ s 0 14) : DV (s 1 2) (dls s k) := DV_dsh _ (fun i i0 i1 j j0 j1 => (G.row i0 (by omega) j0 j1).2.2)
theorem GX.d12 (G : GX s) {k : Int} (k1 : k ≤ s 0 14) : (dls s k).1 ≤ 12 := by
  have h := G.2.1.2.2
  have := dsh_m (s 19) (s 8) (fun i => s (26 + i.toNat)) (show k.toNat ≤ (s 0 14).toNat by omega)
  unfold dls
  omega
theorem ok_X2_layTold {Q : Sg → Prop} (G : GX s) (M : MC s t) (hQ : ∀ u : Sg, DM (dls s (s 0 14)) u → (∀ (k : Nat) (j : Int), ¬ (k = 11 ∨ (k = 0 ∧ j = 21)) → u k j = t k j) → Q u) : wp_X2_layTold t Q := by
  have hg := G.b
  unfold wp_X2_layTold
  refine ⟨fun i u => 0 ≤ i ∧ i ≤ s 0 14 ∧ DM (dls s i) u ∧ (∀ (k : Nat) (j : Int), ¬ (k = 11 ∨ (k = 0 ∧ j = 21)) → u k j = t k j), fun i u => (s 0 14 - i).toNat, ⟨by omega, by omega, ⟨up_s _ _ _ _, fun j j0 j1 => by have : j < (0 : Int) := j1; omega⟩, fun k j hk => by rw [up_at, if_neg (by omega)]⟩, fun i u ⟨i0, i1, D, F⟩ => ?_⟩
  have e15 : u 0 15 = s 0 14 := by rw [F 0 15 (by omega)]; exact M.sh
  refine ⟨by omega, by omega, fun h => ?_, fun h => ?_⟩
  · have e : i = s 0 14 := by omega
    rw [e] at D
    exact hQ u D F
  · have h : i < s 0 14 := by omega
    have hsc := G.sc i0 h
    have hrw : dls s (i + 1) = dro (s 19) (s (26 + i.toNat)) (s 8 i).toNat (dls s i) := dsh_s _ _ _ i0
    have hVi := G.dv (show i ≤ s 0 14 by omega)
    have h12 := G.d12 (show i + 1 ≤ s 0 14 by omega)
    rw [hrw] at h12
    refine ⟨fun j u => 0 ≤ j ∧ j ≤ s 8 i ∧ DM (dro (s 19) (s (26 + i.toNat)) j.toNat (dls s i)) u ∧ (∀ (k : Nat) (j : Int), ¬ (k = 11 ∨ (k = 0 ∧ j = 21)) → u k j = t k j), fun j u => (s 8 i - j).toNat, ⟨by omega, by omega, D, F⟩, fun j u ⟨j0, j1, D, F⟩ => ?_⟩
    have Mu : MC s u := MC_MS M (fun k j hk => F k j (by unfold com at hk; omega))
    have e8 := Mu.sc i0 h
    refine ⟨by omega, by omega, by omega, by omega, fun h2 => ?_, fun h2 => ?_⟩
    · have e : j = s 8 i := by omega
      rw [e] at D
      refine ⟨⟨by omega, by omega, ?_, F⟩, by dsimp only; omega⟩
      rw [hrw]; exact D
    · have h2 : j < s 8 i := by omega
      obtain ⟨r0, r1, l0, l1⟩ := G.row i0 h j0 h2
      rw [Mu.sk i0 h j0 h2, Mu.L r0 r1]
      have hW := DV_dro (L := s 19) (row := s (26 + i.toNat)) hVi j.toNat (fun q q0 q1 => (G.row i0 h q0 (by omega)).2.2)
      have hst := dro_s (s 19) (s (26 + i.toNat)) (dls s i) j0
      have hm1 := dro_m (s 19) (s (26 + i.toNat)) (dls s i) (show j.toNat ≤ (s 8 i).toNat by omega)
      have hm2 := dro_m (s 19) (s (26 + i.toNat)) (dls s i) (show (j + 1).toNat ≤ (s 8 i).toNat by omega)
      refine ⟨by omega, by omega, r0, by omega, ?_⟩
      refine ok_X2_tellAlso D hW (by omega) (by omega) (by omega) (by rw [← hst]; omega) (fun w D2 F2 => ⟨⟨by omega, by omega, by rw [hst]; exact D2, fun k j hk => by rw [F2 k j hk]; exact F k j hk⟩, by dsimp only; omega⟩)
/-- the first n letters of a long are chords -/
def okb (a n m : Int) : Prop := ∀ j : Int, 0 ≤ j → j < n → byt a j < m
theorem okb_s {a n m : Int} (h : 0 ≤ n) : okb a (n + 1) m ↔ (okb a n m ∧ byt a n < m) := by
  constructor
  · exact fun h2 => ⟨fun j j0 j1 => h2 j j0 (by omega), h2 n h (by omega)⟩
  · rintro ⟨h1, h2⟩ j j0 j1
    by_cases z : j = n
    · rw [z]; exact h2
    · exact h1 j j0 (by omega)
theorem ok_X0_areChords {Q : Int → Prop} (G : GX s) (hc : RgL c) (a0 : 1 ≤ a) (a6 : a ≤ 6) (hQ : Q (b2i (okb c a (s 1 1)))) : wp_X0_areChords a c s Q := by
  have hg := G.b
  unfold wp_X0_areChords
  refine ⟨fun f k => 0 ≤ k ∧ k ≤ a ∧ f = b2i (okb c k (s 1 1)), fun f k => (a - k).toNat, ⟨by omega, by omega, (b2i_t (fun j j0 j1 => by omega)).symm⟩, fun f k ⟨k0, k1, hf⟩ => ⟨by omega, by omega, fun h => ?_, fun h => ?_⟩⟩
  · have e : k = a := by omega
    rw [e] at hf
    rw [hf]
    exact ⟨b2i_01 _, hQ⟩
  · have hb := byt_b c k
    have q1 := b2i_r (okb c k (s 1 1))
    refine ⟨hc, by omega, by omega, ?_⟩
    rw [show (c / 2 ^ ((8 * k) : Int).toNat) % 2 ^ 8 = byt c k from rfl]
    refine ok_X0_isChord (XS.refl s) G (by omega) (fun p q => ⟨by omega, ⟨⟨by omega, by omega, ?_⟩, by dsimp only; omega⟩⟩) (fun p => ⟨by omega, ⟨⟨by omega, by omega, ?_⟩, by dsimp only; omega⟩⟩)
    · have hz := band_b (okb c k (s 1 1)) (byt c k < s 1 1)
      rw [b2i_t q] at hz
      rw [hf, hz]
      exact b2i_c (okb_s k0).symm
    · have q : ¬ byt c k < s 1 1 := by omega
      have hz := band_b (okb c k (s 1 1)) (byt c k < s 1 1)
      rw [b2i_f q] at hz
      rw [hf, hz]
      exact b2i_c (okb_s k0).symm
theorem hi0 {c a : Int} (a0 : 1 ≤ a) (a6 : a ≤ 6) : c % 18446744073709551616 / 2 ^ ((8 * a) : Int).toNat = 0 ↔ ∀ k : Int, a ≤ k → k < 8 → byt c k = 0 := by
  have e1 : byt c 1 = c / 256 % 256 := rfl
  have e2 : byt c 2 = c / 65536 % 256 := rfl
  have e3 : byt c 3 = c / 16777216 % 256 := rfl
  have e4 : byt c 4 = c / 4294967296 % 256 := rfl
  have e5 : byt c 5 = c / 1099511627776 % 256 := rfl
  have e6 : byt c 6 = c / 281474976710656 % 256 := rfl
  have e7 : byt c 7 = c / 72057594037927936 % 256 := rfl
  have key : ∀ d : Int, (c % 18446744073709551616 / 2 ^ ((8 * a) : Int).toNat = d) → (d = 0 ↔ ((a ≤ 1 → byt c 1 = 0) ∧ (a ≤ 2 → byt c 2 = 0) ∧ (a ≤ 3 → byt c 3 = 0) ∧ (a ≤ 4 → byt c 4 = 0) ∧ (a ≤ 5 → byt c 5 = 0) ∧ byt c 6 = 0 ∧ byt c 7 = 0)) := by
    intro d hd
    rw [e1, e2, e3, e4, e5, e6, e7]
    rcases (show a = 1 ∨ a = 2 ∨ a = 3 ∨ a = 4 ∨ a = 5 ∨ a = 6 by omega) with rfl | rfl | rfl | rfl | rfl | rfl
    · have hd : c % 18446744073709551616 / 256 = d := hd
      omega
    · have hd : c % 18446744073709551616 / 65536 = d := hd
      omega
    · have hd : c % 18446744073709551616 / 16777216 = d := hd
      omega
    · have hd : c % 18446744073709551616 / 4294967296 = d := hd
      omega
    · have hd : c % 18446744073709551616 / 1099511627776 = d := hd
      omega
    · have hd : c % 18446744073709551616 / 281474976710656 = d := hd
      omega
  rw [key _ rfl]
  constructor
  · rintro ⟨h1, h2, h3, h4, h5, h6, h7⟩ k k0 k1
    rcases (show k = 1 ∨ k = 2 ∨ k = 3 ∨ k = 4 ∨ k = 5 ∨ k = 6 ∨ k = 7 by omega) with rfl | rfl | rfl | rfl | rfl | rfl | rfl
    · exact h1 k0
    · exact h2 k0
    · exact h3 k0
    · exact h4 k0
    · exact h5 k0
    · exact h6
    · exact h7
  · intro h
    exact ⟨fun w => h 1 w (by decide), fun w => h 2 w (by decide), fun w => h 3 w (by decide), fun w => h 4 w (by decide), fun w => h 5 w (by decide), h 6 (by omega) (by decide), h 7 (by omega) (by decide)⟩
/-- the answers of sheet that change nothing that lasts -/
def shB (s : Sg) (a c b r : Int) : Prop :=
  (¬ (1 ≤ a ∧ a ≤ 6) ∧ r = -102) ∨ (1 ≤ a ∧ a ≤ 6 ∧ ¬ (0 ≤ b ∧ b ≤ 6) ∧ r = -102) ∨ (1 ≤ a ∧ a ≤ 6 ∧ 0 ≤ b ∧ b ≤ 6 ∧ ¬ (∀ k : Int, a ≤ k → k < 8 → byt c k = 0) ∧ r = -102) ∨
  (1 ≤ a ∧ a ≤ 6 ∧ 0 ≤ b ∧ b ≤ 6 ∧ (∀ k : Int, a ≤ k → k < 8 → byt c k = 0) ∧ ¬ okb c a (s 1 1) ∧ r = -101) ∨
  (1 ≤ a ∧ a ≤ 6 ∧ 0 ≤ b ∧ b ≤ 6 ∧ (∀ k : Int, a ≤ k → k < 8 → byt c k = 0) ∧ okb c a (s 1 1) ∧ (s 0 14 = 5 ∨ 12 < (dro (s 19) (byt c) a.toNat (dls s (s 0 14))).1) ∧ r = -104)
def shG (s : Sg) (a c b : Int) : Prop := 1 ≤ a ∧ a ≤ 6 ∧ 0 ≤ b ∧ b ≤ 6 ∧ (∀ k : Int, a ≤ k → k < 8 → byt c k = 0) ∧ okb c a (s 1 1) ∧ s 0 14 ≠ 5 ∧ (dro (s 19) (byt c) a.toNat (dls s (s 0 14))).1 ≤ 12
theorem shB_u {s : Sg} {a c b r r' : Int} (h : shB s a c b r) (h' : shB s a c b r') : r = r' := by
  unfold shB at h h'
  rcases h with h | h | h | h | h <;> rcases h' with h' | h' | h' | h' | h'
  all_goals first
    | omega
    | (exfalso; exact h.2.2.2.2.1 h'.2.2.2.2.1)
    | (exfalso; exact h'.2.2.2.2.1 h.2.2.2.2.1)
    | (exfalso; exact h.2.2.2.2.2.1 h'.2.2.2.2.2.1)
    | (exfalso; exact h'.2.2.2.2.2.1 h.2.2.2.2.2.1)
theorem shBG {s : Sg} {a c b r : Int} (h : shB s a c b r) (h' : shG s a c b) : False := by
  unfold shB at h
  obtain ⟨a0, a1, a2, a3, a4, a5, a6, a7⟩ := h'
  rcases h with h | h | h | h | h
  · omega
  · omega
  · exact h.2.2.2.2.1 a4
  · exact h.2.2.2.2.2.1 a5
  · have := h.2.2.2.2.2.2.1
    omega
theorem ok_X0_sheet {Q : Int → Sg → Prop} (G : GX s) (ha : Rg a) (hc : RgL c) (hb : Rg b) (hB : ∀ (r : Int) (u : Sg), shB s a c b r → (∀ (k : Nat) (j : Int), ¬ (k = 10 ∨ (k = 0 ∧ j = 16) ∨ (k = 8 ∧ j = s 0 14) ∨ k = 26 + (s 0 14).toNat) ∨ (s 0 14 = 5 ∧ ¬ (k = 10 ∨ (k = 0 ∧ j = 16))) → u k j = s k j) → Q r u)
    (hG : ∀ u : Sg, shG s a c b → (∀ (k : Nat) (j : Int), ¬ (k = 10 ∨ (k = 0 ∧ (j = 16 ∨ j = 14)) ∨ (k = 8 ∧ j = s 0 14) ∨ (k = 9 ∧ j = s 0 14) ∨ k = 26 + (s 0 14).toNat) → u k j = s k j) → u 0 14 = s 0 14 + 1 → u 8 (s 0 14) = a → u 9 (s 0 14) = b → (∀ j : Int, 0 ≤ j → j < a → u (26 + (s 0 14).toNat) j = byt c j) → Q (s 0 14 + 1) u) : wp_X0_sheet a c b s Q := by
  have hg := G.b
  have sk : ∀ r, shB s a c b r → Q r s := fun r h => hB r s h (fun _ _ _ => rfl)
  unfold wp_X0_sheet
  refine ok_X0_in ha (by omega) (by omega) (fun p q => tf1 ?_) (fun p => tf0 (sk _ (Or.inl ⟨p, rfl⟩)))
  refine ok_X0_in hb (by omega) (by omega) (fun p2 q2 => tf1 ?_) (fun p2 => tf0 (sk _ (Or.inr (Or.inl ⟨p, q, p2, rfl⟩))))
  have hdiv : 0 ≤ c % 18446744073709551616 / 2 ^ ((8 * a) : Int).toNat ∧ c % 18446744073709551616 / 2 ^ ((8 * a) : Int).toNat < 9223372036854775808 := by
    rcases (show a = 1 ∨ a = 2 ∨ a = 3 ∨ a = 4 ∨ a = 5 ∨ a = 6 by omega) with rfl | rfl | rfl | rfl | rfl | rfl
    · show 0 ≤ c % 18446744073709551616 / 256 ∧ c % 18446744073709551616 / 256 < 9223372036854775808; omega
    · show 0 ≤ c % 18446744073709551616 / 65536 ∧ c % 18446744073709551616 / 65536 < 9223372036854775808; omega
    · show 0 ≤ c % 18446744073709551616 / 16777216 ∧ c % 18446744073709551616 / 16777216 < 9223372036854775808; omega
    · show 0 ≤ c % 18446744073709551616 / 4294967296 ∧ c % 18446744073709551616 / 4294967296 < 9223372036854775808; omega
    · show 0 ≤ c % 18446744073709551616 / 1099511627776 ∧ c % 18446744073709551616 / 1099511627776 < 9223372036854775808; omega
    · show 0 ≤ c % 18446744073709551616 / 281474976710656 ∧ c % 18446744073709551616 / 281474976710656 < 9223372036854775808; omega
  refine ⟨by omega, by omega, by omega, fun hz => ?_, fun hz => sk _ (Or.inr (Or.inr (Or.inl ⟨p, q, p2, q2, fun w => hz ((hi0 p q).mpr w), rfl⟩)))⟩
  have hz := (hi0 p q).mp hz
  refine ok_X0_areChords G hc p q ?_
  by_cases hok : okb c a (s 1 1)
  · rw [b2i_t hok]
    refine tt1 ⟨by omega, fun h5 => ?_, fun h5 => sk _ (Or.inr (Or.inr (Or.inr (Or.inr ⟨p, q, p2, q2, hz, hok, Or.inl h5, rfl⟩))))⟩
    refine ⟨fun x u => 0 ≤ x ∧ x ≤ a ∧ (∀ (k : Nat) (j : Int), k ≠ 26 + (s 0 14).toNat → u k j = s k j) ∧ (∀ j : Int, 0 ≤ j → j < x → u (26 + (s 0 14).toNat) j = byt c j), fun x u => (a - x).toNat, ⟨by omega, by omega, fun _ _ _ => rfl, fun j j0 j1 => by omega⟩, fun x u ⟨x0, x1, F, hr⟩ => ?_⟩
    have e14 : u 0 14 = s 0 14 := F 0 14 (by omega)
    refine ⟨by omega, by omega, fun h => ?_, fun h => ?_⟩
    · have e : x = a := by omega
      rw [e] at hr
      rw [up_o _ _ _ _ (show 0 ≠ 8 by decide), e14]
      have f8 : ∀ i : Int, 0 ≤ i → i < s 0 14 → (up u 8 (s 0 14) a) 8 i = s 8 i := fun i i0 i1 => by rw [up_n _ _ _ _ _ (by omega)]; exact F 8 i (by omega)
      have fr : ∀ i : Int, 0 ≤ i → i < s 0 14 → (up u 8 (s 0 14) a) (26 + i.toNat) = s (26 + i.toNat) := fun i i0 i1 => funext fun j => by rw [up_o _ _ _ _ (by omega)]; exact F _ j (by omega)
      have f19 : (up u 8 (s 0 14) a) 19 = s 19 := funext fun j => by rw [up_o _ _ _ _ (by omega)]; exact F _ j (by omega)
      have fn : ∀ j : Int, 0 ≤ j → j < a → (up u 8 (s 0 14) a) (26 + (s 0 14).toNat) j = byt c j := fun j j0 j1 => by rw [up_o _ _ _ _ (by omega)]; exact hr j j0 j1
      have g8 : (up u 8 (s 0 14) a) 8 (s 0 14) = a := up_s _ _ _ _
      have hds : ∀ i : Int, 0 ≤ i → i ≤ s 0 14 → dsh ((up u 8 (s 0 14) a) 19) ((up u 8 (s 0 14) a) 8) (fun i => (up u 8 (s 0 14) a) (26 + i.toNat)) i.toNat = dls s i := fun i i0 i1 => by
        unfold dls
        rw [f19]
        exact dsh_c (fun i i0 i1 => f8 i i0 (by omega)) (fun i i0 i1 j j0 j1 => by rw [fr i i0 (by omega)])
      have hdl : dsh ((up u 8 (s 0 14) a) 19) ((up u 8 (s 0 14) a) 8) (fun i => (up u 8 (s 0 14) a) (26 + i.toNat)) (s 0 14 + 1).toNat = dro (s 19) (byt c) a.toNat (dls s (s 0 14)) := by
        rw [dsh_s _ _ _ hg.2.2.2.2.2.2.2.2.2.1, hds _ (by omega) (by omega), f19, g8]
        exact dro_c (fun j j0 j1 => fn j j0 (by omega))
      have hbs : ∀ j : Int, 0 ≤ j → j < a → 0 ≤ byt c j ∧ byt c j < s 1 1 ∧ 0 ≤ s 19 (byt c j) ∧ s 19 (byt c j) < s 1 2 := fun j j0 j1 => by
        have h1 := (byt_b c j).1
        have h2 := hok j j0 j1
        exact ⟨h1, h2, G.L h1 h2⟩
      refine ⟨by omega, by omega, ok_X0_layDoubts (g := s 1 2) (by omega) (by omega) (by omega) (fun i i0 i1 => ?_) (fun i i0 i1 => ?_) (fun w D W => ?_)⟩
      · rw [f19]
        by_cases z : i = s 0 14
        · rw [z, g8]
          refine ⟨by omega, q, fun j j0 j1 => ?_⟩
          rw [fn j j0 j1]
          have := hbs j j0 j1
          exact ⟨⟨this.1, by omega⟩, this.2.2⟩
        · rw [f8 i i0 (by omega), fr i i0 (by omega)]
          have h1 := G.sc i0 (show i < s 0 14 by omega)
          refine ⟨by omega, h1.2.1, fun j j0 j1 => ?_⟩
          have := G.row i0 (show i < s 0 14 by omega) j0 j1
          exact ⟨⟨this.1, by omega⟩, this.2.2⟩
      · rw [hds i i0 (by omega)]
        exact G.d12 (by omega)
      · rw [hdl] at D
        have w14 : w 0 14 = s 0 14 := by rw [W 0 14 (by omega), up_o _ _ _ _ (by decide)]; exact e14
        have hp0 : 0 ≤ (dro (s 19) (byt c) a.toNat (dls s (s 0 14))).1 ∧ (dro (s 19) (byt c) a.toNat (dls s (s 0 14))).1 ≤ 18 := by
          have h1 := dro_b (s 19) (byt c) (dls s (s 0 14)) a.toNat
          have h2 := (G.dv (Int.le_refl (s 0 14))).1
          have h3 := G.d12 (Int.le_refl (s 0 14))
          omega
        have e16 := D.1
        rw [w14]
        refine ⟨by omega, fun h12 => ⟨by omega, by omega, ?_⟩, fun h12 => ?_⟩
        · have v14 : (up w 9 (s 0 14) b) 0 14 = s 0 14 := by rw [up_o _ _ _ _ (by decide)]; exact w14
          rw [v14]
          have z14 : (up (up w 9 (s 0 14) b) 0 14 (s 0 14 + 1)) 0 14 = s 0 14 + 1 := up_s _ _ _ _
          rw [z14]
          refine hG _ ⟨p, q, p2, q2, hz, hok, h5, by omega⟩ (fun k j hk => ?_) z14 ?_ ?_ (fun j j0 j1 => ?_)
          · rw [up_at, if_neg (by omega), up_at, if_neg (by omega), W k j (by omega), up_at, if_neg (by omega)]
            exact F k j (by omega)
          · rw [up_o _ _ _ _ (by decide), up_o _ _ _ _ (by decide), W 8 _ (by omega)]; exact g8
          · rw [up_o _ _ _ _ (by decide), up_s]
          · rw [up_o _ _ _ _ (by omega), up_o _ _ _ _ (by omega), W _ _ (by omega)]; exact fn j j0 j1
        · refine hB _ w (Or.inr (Or.inr (Or.inr (Or.inr ⟨p, q, p2, q2, hz, hok, Or.inr (by omega), rfl⟩)))) (fun k j hk => ?_)
          rw [W k j (by omega), up_at, if_neg (by omega)]
          exact F k j (by omega)
    · rw [e14]
      refine ⟨by omega, by omega, hc, by omega, by omega, x0, by omega, ⟨⟨by omega, by omega, fun k j hk => ?_, fun j j0 j1 => ?_⟩, by dsimp only; omega⟩⟩
      · rw [up_o _ _ _ _ hk]; exact F k j hk
      · by_cases z : j = x
        · rw [z, up_s]; rfl
        · rw [up_n _ _ _ _ _ z]; exact hr j j0 (by omega)
  · rw [b2i_f hok]
    exact tt0 (sk _ (Or.inr (Or.inr (Or.inr (Or.inl ⟨p, q, p2, q2, hz, hok, rfl⟩)))))
end
