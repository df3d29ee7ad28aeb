/-! PLAIN LAWS, 26: readings, both -/
theorem jn1_i {A : Type} {K : A → Prop} {b : (A → Prop) → Prop} (h : b K) : JN1 K b := h
theorem rct_s (s : Sg) {x : Int} (h : 0 ≤ x) : rct s (x + 1) = rct s x + b2i (rdg s x) := sm_s _ h
theorem sil_s (s : Sg) (k : Int) {x : Int} (h : 0 ≤ x) : sil s k (x + 1) = sil s k x + b2i (rdg s x ∧ ¬ bq x k) := sm_s _ h
section
variable {s t : Sg} {i a b c : Int}
/-- x's scratch of the readings -/
def FR (t u : Sg) : Prop := ∀ (k : Nat) (j : Int), ¬ (k = 10 ∨ k = 11 ∨ k = 12 ∨ (k = 0 ∧ j = 16)) → u k j = t k j
theorem FR.XS {s t u : Sg} (X : XS s t) (F : FR t u) : XS s u := X.trans (fun k j hk => F k j (by unfold cor at hk; omega))
theorem ok_X0_layReadings {Q : Int → Sg → Prop} (G : GX s) (X : XS s t) (hQ : ∀ u : Sg, XS s u → DR (tl s) u → (∀ k : Int, 0 ≤ k → k < (tl s).1 → u 12 k = sil s k (pw s)) → Q (rct s (pw s)) u) : wp_X0_layReadings t Q := by
  have hg := G.b
  have ht := tl_b G
  have hpw := pw_b G
  unfold wp_X0_layReadings
  refine ok_X0_doubts G X (fun u D F => ?_)
  have F0 : FR t u := fun k j hk => F k j (by omega)
  clear F
  refine ⟨fun i u => 0 ≤ i ∧ i ≤ s 0 14 ∧ FR t u ∧ DR (tl s) u ∧ ∀ j : Int, 0 ≤ j → j < i → u 11 j = stb s j (s 8 j).toNat, fun i u => (s 0 14 - i).toNat, ⟨by omega, by omega, F0, D, fun j j0 j1 => by omega⟩, fun i u ⟨i0, i1, F, D, hb⟩ => ?_⟩
  have X1 := F.XS X
  have e14 := X1.sh
  refine ⟨by omega, by omega, fun h => ?_, fun h => ?_⟩
  · have ei : i = s 0 14 := by omega
    rw [ei] at hb
    clear ei h i0 i1 e14 X1
    refine ⟨fun k u => 0 ≤ k ∧ k ≤ 12 ∧ FR t u ∧ DR (tl s) u ∧ (∀ j : Int, 0 ≤ j → j < s 0 14 → u 11 j = stb s j (s 8 j).toNat) ∧ ∀ j : Int, 0 ≤ j → j < k → u 12 j = 0, fun k u => (12 - k).toNat, ⟨by omega, by omega, F, D, hb, fun j j0 j1 => by omega⟩, fun k u ⟨k0, k1, F, D, hb, hz⟩ => ⟨by omega, fun h => ?_, fun h => ?_⟩⟩
    · have ek : k = 12 := by omega
      rw [ek] at hz
      have X1 := F.XS X
      refine ok_X0_surely G X1 D (fun sr sr0 hsr => ?_)
      have hsr4 : sr < 2 ^ 12 := lt_of_bits sr0 (fun k hk hb => by
        have := (hsr k (by omega)).mp hb
        omega)
      have hsr5 : sr < 4096 := hsr4
      refine ⟨fun r x u => 0 ≤ x ∧ x ≤ pw s ∧ r = rct s x ∧ FR t u ∧ DR (tl s) u ∧ (∀ j : Int, 0 ≤ j → j < s 0 14 → u 11 j = stb s j (s 8 j).toNat) ∧ ∀ j : Int, 0 ≤ j → j < (tl s).1 → u 12 j = sil s j x, fun r x u => (pw s - x).toNat, ⟨by omega, by omega, rfl, F, D, hb, fun j j0 j1 => hz j j0 (by omega)⟩, fun r x u ⟨x0, x1, hr, F, D, hb, hz⟩ => ?_⟩
      have X1 := F.XS X
      have e16 := D.1
      have epw : (1 : Int) * 2 ^ ((u 0 16) : Int).toNat = pw s := by rw [e16]; rfl
      refine ⟨by omega, by omega, by omega, by rw [epw]; omega, fun h => ?_, fun h => ?_⟩
      · rw [epw] at h
        have ex : x = pw s := by omega
        rw [ex] at hz
        rw [hr, ex]
        exact hQ u X1 D hz
      · rw [epw] at h
        have hbl := band_le (y := sr) x0
        have hbn := band_nn x sr
        have hiff : band x sr = sr ↔ rdl s x (tl s).1 := by
          rw [band_sub x0 sr0]
          constructor
          · intro w k k0 k1 k2
            exact w k k0 ((hsr k k0).mpr ⟨k1, k2⟩)
          · intro w k k0 k1
            have := (hsr k k0).mp k1
            exact w k k0 this.1 this.2
        have hskip : ¬ rdg s x → (0 ≤ x + 1 ∧ x + 1 ≤ pw s ∧ r = rct s (x + 1) ∧ FR t u ∧ DR (tl s) u ∧ (∀ j : Int, 0 ≤ j → j < s 0 14 → u 11 j = stb s j (s 8 j).toNat) ∧ ∀ j : Int, 0 ≤ j → j < (tl s).1 → u 12 j = sil s j (x + 1)) := fun hn => by
          refine ⟨by omega, by omega, ?_, F, D, hb, fun j j0 j1 => ?_⟩
          · rw [rct_s s x0, b2i_f hn, hr]; omega
          · rw [sil_s s j x0, b2i_f (fun q => hn q.1), hz j j0 j1]; omega
        refine ⟨x0, sr0, by omega, by omega, ?_⟩
        unfold JN2
        refine ⟨fun w => ⟨hskip (fun q => w (hiff.mpr q.1)), by dsimp only; omega⟩, fun w => ?_⟩
        have hl := hiff.mp w
        refine ok_X0_isReading G X1 x0 (by omega) hb ?_
        by_cases hrs : rds s x (s 0 14)
        · rw [b2i_t hrs]
          refine tf1 ?_
          have hrd : rdg s x := ⟨hl, hrs⟩
          refine ⟨fun k v => 0 ≤ k ∧ k ≤ (tl s).1 ∧ FR t v ∧ DR (tl s) v ∧ (∀ j : Int, 0 ≤ j → j < s 0 14 → v 11 j = stb s j (s 8 j).toNat) ∧ ∀ j : Int, 0 ≤ j → j < (tl s).1 → v 12 j = if j < k then sil s j (x + 1) else sil s j x, fun k v => ((tl s).1 - k).toNat, ⟨by omega, by omega, F, D, hb, fun j j0 j1 => by rw [if_neg (by omega)]; exact hz j j0 j1⟩, fun k v ⟨k0, k1, F, D, hb, hz⟩ => ?_⟩
          have e16 := D.1
          refine ⟨by omega, by omega, fun h2 => ?_, fun h2 => ?_⟩
          · refine ⟨⟨by omega, by omega, ?_, F, D, hb, fun j j0 j1 => ?_⟩, by dsimp only; omega⟩
            · rw [rct_s s x0, b2i_t hrd, hr]
            · rw [hz j j0 j1, if_pos (by omega)]
          · refine ⟨by omega, by omega, ok_X0_isIn (by omega) x0 k0 (by omega) ?_⟩
            refine jn1_v (b2i (¬ bq x k)) (fun K hK => ⟨fun w2 => ?_, fun w2 => ?_⟩) ?_
            · rw [b2i_t (fun q => by rw [b2i_t q] at w2; omega)] at hK; exact hK
            · rw [b2i_f (fun q => w2 (b2i_f q))] at hK; exact hK
            refine ⟨k0, by omega, ⟨⟨by omega, by omega, fun k' j hk => ?_, ⟨?_, fun j j0 j1 => ?_⟩, fun j j0 j1 => ?_, fun j j0 j1 => ?_⟩, by dsimp only; omega⟩⟩
            · rw [up_o _ _ _ _ (by omega)]; exact F k' j hk
            · rw [up_o _ _ _ _ (by decide)]; exact D.1
            · rw [up_o _ _ _ _ (by decide)]; exact D.2 j j0 j1
            · rw [up_o _ _ _ _ (by decide)]; exact hb j j0 j1
            · by_cases q : j = k
              · subst q
                rw [up_s, if_pos (by omega), hz j j0 j1, if_neg (by omega), sil_s s j x0]
                rw [b2i_c (show (¬ bq x j) ↔ (rdg s x ∧ ¬ bq x j) from ⟨fun w => ⟨hrd, w⟩, fun w => w.2⟩)]
              · rw [up_n _ _ _ _ _ q, hz j j0 j1]
                by_cases q2 : j < k
                · rw [if_pos q2, if_pos (by omega)]
                · rw [if_neg q2, if_neg (by omega)]
        · rw [b2i_f hrs]
          exact tf0 ⟨hskip (fun q => hrs q.2), by dsimp only; omega⟩
    · refine ⟨k0, by omega, ⟨⟨by omega, by omega, fun k' j hk => ?_, ⟨?_, fun j j0 j1 => ?_⟩, fun j j0 j1 => ?_, fun j j0 j1 => ?_⟩, by dsimp only; omega⟩⟩
      · rw [up_o _ _ _ _ (by omega)]; exact F k' j hk
      · rw [up_o _ _ _ _ (by decide)]; exact D.1
      · rw [up_o _ _ _ _ (by decide)]; exact D.2 j j0 j1
      · rw [up_o _ _ _ _ (by decide)]; exact hb j j0 j1
      · by_cases q : j = k
        · rw [q, up_s]
        · rw [up_n _ _ _ _ _ q]; exact hz j j0 (by omega)
  · have h : i < s 0 14 := by omega
    refine ok_X0_bitsOf G X1 D i0 h ?_
    refine ⟨i0, by omega, ⟨⟨by omega, by omega, fun k' j hk => ?_, ⟨?_, fun j j0 j1 => ?_⟩, fun j j0 j1 => ?_⟩, by dsimp only; omega⟩⟩
    · rw [up_o _ _ _ _ (by omega)]; exact F k' j hk
    · rw [up_o _ _ _ _ (by decide)]; exact D.1
    · rw [up_o _ _ _ _ (by decide)]; exact D.2 j j0 j1
    · by_cases q : j = i
      · rw [q, up_s]
      · rw [up_n _ _ _ _ _ q]; exact hb j j0 (by omega)
theorem ok_X2_isReading {x : Int} {u : Sg} {Q : Int → Prop} (G : GX s) (M : MC s u) (D : DM (tl s) u) (x0 : 0 ≤ x) (x1 : x < 4096) (hQ : Q (b2i (rdg s x))) : wp_X2_isReading x u Q := by
  have hg := G.b
  have ht := tl_b G
  unfold wp_X2_isReading
  rw [D.1]
  have fin : ∀ f : Int, f = b2i (rdg s x) → ((f = 0 ∨ f = 1) ∧ Q f) := fun f hf => by rw [hf]; exact ⟨b2i_01 _, hQ⟩
  refine ⟨fun f k => 0 ≤ k ∧ k ≤ (tl s).1 ∧ f = b2i (rdl s x k), fun f k => ((tl s).1 - k).toNat, ⟨by omega, by omega, (b2i_t (fun j j0 j1 => by omega)).symm⟩, fun f k ⟨k0, k1, hf⟩ => ?_⟩
  have qf := b2i_r (rdl s x k)
  refine ⟨by omega, by omega, fun h => ?_, fun h => ?_⟩
  · have ek : k = (tl s).1 := by omega
    rw [ek] at hf
    refine ⟨fun f k => 0 ≤ k ∧ k ≤ s 0 14 ∧ f = b2i (rdl s x (tl s).1 ∧ rds s x k), fun f k => (s 0 14 - k).toNat, ⟨by omega, by omega, by rw [hf]; exact b2i_c ⟨fun w => ⟨w, fun j j0 j1 => by omega⟩, fun w => w.1⟩⟩, fun f k ⟨k0, k1, hf⟩ => ?_⟩
    have qf := b2i_r (rdl s x (tl s).1 ∧ rds s x k)
    have e15 := M.sh
    refine ⟨by omega, by omega, fun h => ?_, fun h => ⟨by omega, fun w => ?_, fun w => ?_⟩⟩
    · have ek : k = s 0 14 := by omega
      rw [ek] at hf
      exact fin f hf
    · refine fin f ?_
      rw [w]
      refine (b2i_f (fun q => ?_)).symm
      rw [w] at hf
      exact b2i_0.mp hf.symm ⟨q.1, fun j j0 j1 => q.2 j j0 (by omega)⟩
    · have h : k < s 0 14 := by omega
      have hpre : rdl s x (tl s).1 ∧ rds s x k := by
        rcases b2i_01 (rdl s x (tl s).1 ∧ rds s x k) with y | y
        · omega
        · exact b2i_1.mp y
      have hs := G.sc k0 h
      have e8 := M.sc k0 h
      have e87 := M.sw k0 h
      refine ⟨fun r j => 0 ≤ j ∧ j ≤ s 8 k ∧ r = stb s k j.toNat, fun r j => (s 8 k - j).toNat, ⟨by omega, by omega, rfl⟩, fun r j ⟨j0, j1, hr⟩ => ⟨by omega, by omega, by omega, by omega, fun h2 => ?_, fun h2 => ?_⟩⟩
      · have ej : j = s 8 k := by omega
        rw [ej] at hr
        have hr0 := stb_0 s k (s 8 k).toNat
        rw [e87]
        refine ⟨fun v m => 0 ≤ m ∧ m ≤ 12 ∧ v = pop m.toNat (band x (stb s k (s 8 k).toNat)), fun v m => (12 - m).toNat, ⟨by omega, by omega, rfl⟩, fun v m ⟨m0, m1, hv⟩ => ⟨by omega, fun h3 => ?_, fun h3 => ?_⟩⟩
        · have em : m = 12 := by omega
          rw [em] at hv
          have hv : v = pop 12 (band x (stb s k (s 8 k).toNat)) := hv
          have hpb := pop_b 12 (band x (stb s k (s 8 k).toNat))
          refine ⟨by omega, by omega, by omega, by omega, ?_⟩
          refine jn1_v (b2i (pop 12 (band x (stb s k (s 8 k).toNat)) = s 9 k)) (fun K hK => ⟨fun w2 => ?_, fun w2 => ?_⟩) ?_
          · rw [b2i_f (by rw [← hv]; exact w2)] at hK; exact hK
          · rw [b2i_t (by rw [← hv]; exact w2)] at hK; exact hK
          refine ⟨⟨by omega, by omega, ?_⟩, by dsimp only; omega⟩
          exact b2i_c ⟨fun w2 => ⟨hpre.1, (rds_s k0).mpr ⟨hpre.2, w2⟩⟩, fun w2 => ((rds_s k0).mp w2.2).2⟩
        · have hd : ∀ z : Int, 0 ≤ z → 0 ≤ z / 2 ^ (m : Int).toNat := fun z z0 => by rw [div_nat z0]; exact Int.natCast_nonneg _
          have hr4 : Rg r := by
            have : stb s k (s 8 k).toNat < 2 ^ 12 := lt_of_bits hr0 (fun y hy hb => by
              have key : ∀ n : Nat, (n : Int) ≤ s 8 k → ∀ y : Int, 12 ≤ y → ¬ bq (stb s k n) y := by
                intro n
                induction n with
                | zero => intro _ y _; exact bq_0 y
                | succ n ih =>
                  intro hn y hy hb
                  have hb : bq (bor (stb s k n) ((1 : Int) * 2 ^ (plc s (s 19 (s (26 + k.toNat) (n : Int)))).toNat)) y := hb
                  rw [bq_or] at hb
                  have hp := plc_in G k0 h (show (0 : Int) ≤ n by omega) (show (n : Int) < s 8 k by omega)
                  rcases hb with hb | hb
                  · exact ih (by omega) y hy hb
                  · rw [bq_pow hp.1 (by omega)] at hb
                    omega
              exact key _ (by omega) y (by omega) hb)
            have : stb s k (s 8 k).toNat < 4096 := this
            omega
          refine ⟨hr4, m0, by omega, by omega, m0, by omega, hd r (by omega), hd x x0, band_nn _ _, ⟨⟨by omega, by omega, ?_⟩, by dsimp only; omega⟩⟩
          rw [band_shift m (by omega) x0, hv, hr, band_cm (stb s k (s 8 k).toNat) x]
          exact (sm_s _ m0).symm
      · have h2 : j < s 8 k := by omega
        obtain ⟨r0, r1, l0, l1⟩ := G.row k0 h j0 h2
        have hpl := plc_in G k0 h j0 h2
        have hs0 := stb_0 s k j.toNat
        rw [M.sk k0 h j0 h2, M.L r0 r1]
        refine ⟨by omega, by omega, r0, by omega, ?_⟩
        refine ok_X2_placeOf D (G.dv (Int.le_refl _)) (by omega) (by omega) (by omega) ?_
        have epl : ff (fun y => (tl s).2 y = s 19 (s (26 + k.toNat) j)) (tl s).1.toNat = plc s (s 19 (s (26 + k.toNat) j)) := rfl
        rw [epl]
        refine ⟨hpl.1, by omega, by omega, pow_pos1 _, ⟨⟨by omega, by omega, ?_⟩, by dsimp only; omega⟩⟩
        rw [hr, stb_s s k j0]
  · refine ⟨by omega, ?_⟩
    refine jn1_v (b2i (rdl s x (k + 1))) (fun K hK => ?_) ?_
    · have h0 : ¬ rdl s x (k + 1) → K 0 := fun w => by rw [b2i_f w] at hK; exact hK
      have h1 : rdl s x (k + 1) → K 1 := fun w => by rw [b2i_t w] at hK; exact hK
      unfold JN0
      refine ⟨fun w => h0 (fun y => b2i_0.mp (by rw [← hf]; exact w) ((rdl_s k0).mp y).1), fun w => ?_⟩
      have hpre : rdl s x k := by
        rcases b2i_01 (rdl s x k) with y | y
        · omega
        · exact b2i_1.mp y
      have hv := tl_v G k0 h
      rw [D.2 k k0 h]
      refine ⟨k0, by omega, ok_X2_isLeft G M hv.1 hv.2 ⟨fun w2 => h1 ((rdl_s k0).mpr ⟨hpre, fun y => absurd y w2⟩), fun w2 => ?_⟩⟩
      have hd : 0 ≤ x / 2 ^ (k : Int).toNat := by rw [div_nat x0]; exact Int.natCast_nonneg _
      have := b2i_r (bq x k)
      rw [band_1 k x0]
      refine ⟨by omega, k0, by omega, hd, by omega, fun w3 => h0 (fun y => ?_), fun w3 => h1 ((rdl_s k0).mpr ⟨hpre, fun _ => b2i_1.mp w3⟩)⟩
      exact w3 (b2i_t (((rdl_s k0).mp y).2 w2))
    · exact ⟨⟨by omega, by omega, rfl⟩, by dsimp only; omega⟩
/-- the reference's scratch of the readings -/
def FM (t u : Sg) : Prop := ∀ (k : Nat) (j : Int), ¬ (k = 11 ∨ k = 12 ∨ (k = 0 ∧ (j = 21 ∨ j = 22))) → u k j = t k j
theorem FM.MC {s t u : Sg} (M : MC s t) (F : FM t u) : MC s u := MC_MS M (fun k j hk => F k j (by unfold com at hk; omega))
theorem ok_X2_layReadings {Q : Sg → Prop} (G : GX s) (M : MC s t) (hQ : ∀ u : Sg, FM t u → DM (tl s) u → (∀ k : Int, 0 ≤ k → k < (tl s).1 → u 12 k = sil s k (pw s)) → u 0 22 = rct s (pw s) → Q u) : wp_X2_layReadings t Q := by
  have hg := G.b
  have ht := tl_b G
  have hpw := pw_b G
  unfold wp_X2_layReadings
  refine ok_X2_layTold G M (fun u D F => ?_)
  refine ⟨fun k u => 0 ≤ k ∧ k ≤ 12 ∧ FM t u ∧ DM (tl s) u ∧ u 0 22 = 0 ∧ ∀ j : Int, 0 ≤ j → j < k → u 12 j = 0, fun k u => (12 - k).toNat, ⟨by omega, by omega, fun k j hk => by rw [up_at, if_neg (by omega)]; exact F k j (by omega), ⟨by rw [up_n _ _ _ _ _ (by decide)]; exact D.1, fun j j0 j1 => by rw [up_o _ _ _ _ (by decide)]; exact D.2 j j0 j1⟩, up_s _ _ _ _, fun j j0 j1 => by omega⟩, fun k u ⟨k0, k1, F, D, hc, hz⟩ => ⟨by omega, fun h => ?_, fun h => ?_⟩⟩
  · have ek : k = 12 := by omega
    rw [ek] at hz
    refine ⟨fun x u => 0 ≤ x ∧ x ≤ pw s ∧ FM t u ∧ DM (tl s) u ∧ u 0 22 = rct s x ∧ ∀ j : Int, 0 ≤ j → j < (tl s).1 → u 12 j = sil s j x, fun x u => (pw s - x).toNat, ⟨by omega, by omega, F, D, hc, fun j j0 j1 => hz j j0 (by omega)⟩, fun x u ⟨x0, x1, F, D, hc, hz⟩ => ?_⟩
    have e21 := D.1
    have epw : (1 : Int) * 2 ^ ((u 0 21) : Int).toNat = pw s := by rw [e21]; rfl
    refine ⟨by omega, by omega, by omega, by rw [epw]; omega, fun h => ?_, fun h => ?_⟩
    · rw [epw] at h
      have ex : x = pw s := by omega
      rw [ex] at hz hc
      exact hQ u F D hz hc
    · rw [epw] at h
      refine ok_X2_isReading G (F.MC M) D x0 (by omega) ?_
      by_cases hrd : rdg s x
      · rw [b2i_t hrd]
        refine jn1_i ?_
        refine tf1 ?_
        refine ⟨fun k v => 0 ≤ k ∧ k ≤ (tl s).1 ∧ FM t v ∧ DM (tl s) v ∧ v 0 22 = rct s (x + 1) ∧ ∀ j : Int, 0 ≤ j → j < (tl s).1 → v 12 j = if j < k then sil s j (x + 1) else sil s j x, fun k v => ((tl s).1 - k).toNat, ⟨by omega, by omega, fun k' j hk => by rw [up_at, if_neg (by omega)]; exact F k' j hk, ⟨by rw [up_n _ _ _ _ _ (by decide)]; exact D.1, fun j j0 j1 => by rw [up_o _ _ _ _ (by decide)]; exact D.2 j j0 j1⟩, by rw [up_s, hc, rct_s s x0, b2i_t hrd], fun j j0 j1 => by rw [if_neg (by omega), up_o _ _ _ _ (by decide)]; exact hz j j0 j1⟩, fun k v ⟨k0, k1, F, D, hc, hz⟩ => ?_⟩
        have e21 := D.1
        refine ⟨by omega, by omega, fun h2 => ?_, fun h2 => ?_⟩
        · refine ⟨⟨by omega, by omega, F, D, hc, fun j j0 j1 => ?_⟩, by dsimp only; omega⟩
          rw [hz j j0 j1, if_pos (by omega)]
        · have hd : 0 ≤ x / 2 ^ (k : Int).toNat := by rw [div_nat x0]; exact Int.natCast_nonneg _
          have hbr := b2i_r (bq x k)
          rw [band_1 k x0]
          refine ⟨by omega, by omega, by omega, by omega, by omega, hd, by omega, ?_⟩
          refine jn1_v (b2i (¬ bq x k)) (fun K hK => ⟨fun w2 => ?_, fun w2 => ?_⟩) ?_
          · rw [b2i_f (fun q => w2 (b2i_f q))] at hK; exact hK
          · rw [b2i_t (b2i_0.mp w2)] at hK; exact hK
          refine ⟨k0, by omega, ⟨⟨by omega, by omega, fun k' j hk => ?_, ⟨?_, fun j j0 j1 => ?_⟩, ?_, fun j j0 j1 => ?_⟩, by dsimp only; omega⟩⟩
          · rw [up_o _ _ _ _ (by omega)]; exact F k' j hk
          · rw [up_o _ _ _ _ (by decide)]; exact D.1
          · rw [up_o _ _ _ _ (by decide)]; exact D.2 j j0 j1
          · rw [up_o _ _ _ _ (by decide)]; exact hc
          · by_cases q : j = k
            · subst q
              rw [up_s, if_pos (by omega), hz j j0 j1, if_neg (by omega), sil_s s j x0]
              rw [b2i_c (show (¬ bq x j) ↔ (rdg s x ∧ ¬ bq x j) from ⟨fun w => ⟨hrd, w⟩, fun w => w.2⟩)]
            · rw [up_n _ _ _ _ _ q, hz j j0 j1]
              by_cases q2 : j < k
              · rw [if_pos q2, if_pos (by omega)]
              · rw [if_neg q2, if_neg (by omega)]
      · rw [b2i_f hrd]
        unfold JN1
        refine tf0 ⟨⟨by omega, by omega, F, D, ?_, fun j j0 j1 => ?_⟩, by dsimp only; omega⟩
        · rw [hc, rct_s s x0, b2i_f hrd]; omega
        · rw [sil_s s j x0, b2i_f (fun q => hrd q.1), hz j j0 j1]; omega
  · refine ⟨k0, by omega, ⟨⟨by omega, by omega, fun k' j hk => ?_, ⟨?_, fun j j0 j1 => ?_⟩, ?_, fun j j0 j1 => ?_⟩, by dsimp only; omega⟩⟩
    · rw [up_o _ _ _ _ (by omega)]; exact F k' j hk
    · rw [up_o _ _ _ _ (by decide)]; exact D.1
    · rw [up_o _ _ _ _ (by decide)]; exact D.2 j j0 j1
    · rw [up_o _ _ _ _ (by decide)]; exact hc
    · by_cases q : j = k
      · rw [q, up_s]
      · rw [up_n _ _ _ _ _ q]; exact hz j j0 (by omega)
theorem FM.MS {t u : Sg} (F : FM t u) : MS t u := fun k j hk => F k j (by unfold com at hk; omega)
theorem rel_readings (h : RL i s t) : wp_X0_readings s (fun r s' => wp_X2_readings t (fun r' t' => RR i r s' r' t')) := by
  have G := h.1
  unfold wp_X0_readings
  refine ok_X0_layReadings G (XS.refl s) (fun u X D hz => ?_)
  unfold wp_X2_readings
  refine ok_X2_layReadings G h.2.1 (fun v F D2 hz2 hc => ⟨hc.symm, RL_XM h X F.MS⟩)
/-- how sure chord a is -/
noncomputable def sur (s : Sg) (a : Int) : Int := if plc s (s 19 a) = -1 then (if asW s a = -1 then rct s (pw s) else 0) else sil s (plc s (s 19 a)) (pw s)
theorem sur_b (G : GX s) (a : Int) : 0 ≤ sur s a ∧ sur s a ≤ 4096 := by
  have hpw := pw_b G
  have h1 := rct_b s (show 0 ≤ pw s by omega)
  have h2 := sil_b s (plc s (s 19 a)) (show 0 ≤ pw s by omega)
  unfold sur
  split
  · split <;> omega
  · omega
theorem ok_X0_sureBy {u : Sg} {Q : Int → Prop} (G : GX s) (X : XS s u) (D : DR (tl s) u) (hz : ∀ k : Int, 0 ≤ k → k < (tl s).1 → u 12 k = sil s k (pw s)) (a0 : 0 ≤ a) (a1 : a < s 1 1) (hQ : Q (sur s a)) : wp_X0_sureBy a (rct s (pw s)) u Q := by
  have hg := G.b
  have ht := tl_b G
  have hL := G.L a0 a1
  unfold wp_X0_sureBy
  rw [X.L]
  refine ⟨a0, by omega, ok_X0_doubtOf D (G.dv (Int.le_refl _)) (by omega) (by omega) (by omega) ?_⟩
  have epl : ff (fun y => (tl s).2 y = s 19 a) (tl s).1.toNat = plc s (s 19 a) := rfl
  rw [epl]
  have hpb := plc_b G (s 19 a)
  unfold sur at hQ
  refine ⟨by omega, fun w => ok_X0_asWhat G X a0 a1 ?_, fun w => ?_⟩
  · have hab := asW_b G a
    rw [if_pos w] at hQ
    refine ⟨by omega, fun w2 => ?_, fun w2 => ?_⟩
    · rw [if_neg w2] at hQ; exact hQ
    · rw [if_pos w2] at hQ; exact hQ
  · rw [if_neg w] at hQ
    rw [hz _ (by omega) (by omega)]
    exact ⟨by omega, by omega, hQ⟩
theorem ok_X2_sureNow {u : Sg} {Q : Int → Prop} (G : GX s) (M : MC s u) (D : DM (tl s) u) (hz : ∀ k : Int, 0 ≤ k → k < (tl s).1 → u 12 k = sil s k (pw s)) (hc : u 0 22 = rct s (pw s)) (a0 : 0 ≤ a) (a1 : a < s 1 1) (hQ : Q (sur s a)) : wp_X2_sureNow a u Q := by
  have hg := G.b
  have ht := tl_b G
  have hL := G.L a0 a1
  unfold wp_X2_sureNow
  rw [M.L a0 a1, hc]
  refine ⟨a0, by omega, ok_X2_placeOf D (G.dv (Int.le_refl _)) (by omega) (by omega) (by omega) ?_⟩
  have epl : ff (fun y => (tl s).2 y = s 19 a) (tl s).1.toNat = plc s (s 19 a) := rfl
  rw [epl]
  have hpb := plc_b G (s 19 a)
  unfold sur at hQ
  refine ⟨by omega, fun w => ok_X2_asOf G M a0 a1 ?_, fun w => ?_⟩
  · have hab := asW_b G a
    rw [if_pos w] at hQ
    refine ⟨by omega, fun w2 => ?_, fun w2 => ?_⟩
    · rw [if_neg w2] at hQ; exact hQ
    · rw [if_pos w2] at hQ; exact hQ
  · rw [if_neg w] at hQ
    rw [hz _ (by omega) (by omega)]
    exact ⟨by omega, by omega, hQ⟩
theorem rel_sure (h : RL i s t) (ha : Rg a) : wp_X0_sure a s (fun r s' => wp_X2_sure a t (fun r' t' => RR i r s' r' t')) := by
  have G := h.1
  have M := h.2.1
  unfold wp_X0_sure
  refine ok_X0_isChord (XS.refl s) G ha (fun p q => tf1 ?_) (fun p => tf0 ?_)
  · refine ok_X0_layReadings G (XS.refl s) (fun u X D hz => ok_X0_sureBy G X D hz p q ?_)
    unfold wp_X2_sure
    refine ok_X2_isChord M G ha (fun _ _ => tt1 ?_) (fun w => absurd ⟨p, q⟩ w)
    exact ok_X2_layReadings G M (fun v F D2 hz2 hc => ok_X2_sureNow G (F.MC M) D2 hz2 hc p q ⟨rfl, RL_XM h X F.MS⟩)
  · unfold wp_X2_sure
    exact ok_X2_isChord M G ha (fun p1 q1 => absurd ⟨p1, q1⟩ p) (fun _ => tt0 ⟨rfl, h⟩)
/-- the surest of the first k chords -/
noncomputable def bst (s : Sg) : Nat → Int
  | 0 => 0
  | k + 1 => if sur s (bst s k) < sur s (k : Int) then (k : Int) else bst s k
theorem bst_s (s : Sg) {k : Int} (h : 0 ≤ k) : bst s (k + 1).toNat = if sur s (bst s k.toNat) < sur s k then k else bst s k.toNat := by
  have e : (k + 1).toNat = k.toNat + 1 := by omega
  rw [e]
  show (if sur s (bst s k.toNat) < sur s ((k.toNat : Nat) : Int) then ((k.toNat : Nat) : Int) else bst s k.toNat) = _
  rw [Int.toNat_of_nonneg h]
theorem bst_b (s : Sg) (k : Nat) : 0 ≤ bst s k ∧ (bst s k = 0 ∨ bst s k < k) := by
  induction k with
  | zero => exact ⟨Int.le_refl _, Or.inl rfl⟩
  | succ k ih =>
    unfold bst
    split <;> omega
noncomputable def sst (s : Sg) : Int := if rct s (pw s) = 0 then -1 else bst s (s 1 1).toNat
theorem ok_X0_surestTold {Q : Int → Sg → Prop} (G : GX s) (X : XS s t) (hQ : ∀ u : Sg, XS s u → Q (sst s) u) : wp_X0_surestTold t Q := by
  have hg := G.b
  have hpw := pw_b G
  have hrc := rct_b s (show 0 ≤ pw s by omega)
  unfold wp_X0_surestTold
  refine ok_X0_layReadings G X (fun u X D hz => ?_)
  have hQ := hQ u X
  rw [X.m]
  have e1 : bst s 1 = 0 := by
    show (if sur s 0 < sur s ((0 : Nat) : Int) then ((0 : Nat) : Int) else 0) = 0
    rw [if_neg (by show ¬ sur s 0 < sur s 0; omega)]
  refine ⟨fun b k => 1 ≤ k ∧ k ≤ s 1 1 ∧ b = bst s k.toNat, fun b k => (s 1 1 - k).toNat, ⟨by omega, by omega, e1.symm⟩, fun b k ⟨k0, k1, hb⟩ => ⟨by omega, by omega, fun h => ?_, fun h => ?_⟩⟩
  · have ek : k = s 1 1 := by omega
    rw [ek] at hb
    unfold sst at hQ
    refine ⟨by omega, fun w => ?_, fun w => ?_⟩
    · rw [if_neg w, ← hb] at hQ; exact hQ
    · rw [if_pos w] at hQ; exact hQ
  · have hbb := bst_b s k.toNat
    refine ok_X0_sureBy G X D hz (by omega) h ?_
    refine ok_X0_sureBy G X D hz (by omega) (by omega) ?_
    have q1 := sur_b G k
    have q2 := sur_b G b
    refine ⟨by omega, by omega, ?_⟩
    refine jn1_v (if sur s b < sur s k then k else b) (fun K hK => ⟨fun w => ?_, fun w => ?_⟩) ?_
    · rw [if_neg (by omega)] at hK; exact hK
    · rw [if_pos w] at hK; exact hK
    refine ⟨⟨by omega, by omega, ?_⟩, by dsimp only; omega⟩
    rw [bst_s s (by omega), hb]
theorem ok_X2_surestOf {Q : Int → Sg → Prop} (G : GX s) (M : MC s t) (hQ : ∀ u : Sg, FM t u → u 0 22 = rct s (pw s) → Q (sst s) u) : wp_X2_surestOf t Q := by
  have hg := G.b
  have hpw := pw_b G
  have hrc := rct_b s (show 0 ≤ pw s by omega)
  unfold wp_X2_surestOf
  refine ok_X2_layReadings G M (fun u F D hz hc => ?_)
  have hQ := hQ u F hc
  have Mu := F.MC M
  rw [Mu.m G, hc]
  unfold sst at hQ
  refine ⟨fun b v k => 0 ≤ k ∧ k ≤ s 1 1 ∧ (k = 0 ∧ b = -1 ∧ v = -1 ∨ 0 < k ∧ b = bst s k.toNat ∧ v = sur s b ∧ 0 < rct s (pw s)), fun b v k => (s 1 1 - k).toNat, ⟨by omega, by omega, Or.inl ⟨rfl, rfl, rfl⟩⟩, fun b v k ⟨k0, k1, hb⟩ => ⟨by omega, by omega, fun h => ?_, fun h => ⟨by omega, fun w => ?_, fun w => ?_⟩⟩⟩
  · have ek : k = s 1 1 := by omega
    rcases hb with hb | hb
    · omega
    · rw [if_neg (by omega), ← ek, ← hb.2.1] at hQ; exact hQ
  · rcases hb with hb | hb
    · rw [if_pos (by omega)] at hQ
      rw [hb.2.1]; exact hQ
    · omega
  · have q1 := sur_b G k
    refine ok_X2_sureNow G Mu D hz hc k0 h ?_
    have hvb : -1 ≤ v ∧ v ≤ 4096 := by
      rcases hb with hb | hb
      · omega
      · have := sur_b G b; omega
    refine ⟨by omega, by omega, ?_⟩
    refine jn1_v (if v < sur s k then k else b) (fun K hK => ⟨fun w => ?_, fun w => ?_⟩) ?_
    · rw [if_neg (by omega)] at hK; exact hK
    · rw [if_pos w] at hK; exact hK
    refine ⟨by omega, by omega, ?_⟩
    refine jn1_v (if v < sur s k then sur s k else v) (fun K hK => ⟨fun w => ?_, fun w => ?_⟩) ?_
    · rw [if_neg (by omega)] at hK; exact hK
    · rw [if_pos w] at hK; exact hK
    refine ⟨⟨by omega, by omega, Or.inr ⟨by omega, ?_, ?_, by omega⟩⟩, by dsimp only; omega⟩
    · rw [bst_s s k0]
      rcases hb with hb | hb
      · have e0 : bst s k.toNat = 0 := by rw [hb.1]; rfl
        rw [e0, hb.1, if_pos (by rw [hb.1] at q1; omega), if_neg (by omega)]
      · rw [hb.2.2.1, hb.2.1]
    · by_cases z : v < sur s k
      · rw [if_pos z, if_pos z]
      · rw [if_neg z, if_neg z]
        rcases hb with hb | hb
        · omega
        · exact hb.2.2.1
theorem rel_surest (h : RL i s t) : wp_X0_surest s (fun r s' => wp_X2_surest t (fun r' t' => RR i r s' r' t')) := by
  unfold wp_X0_surest
  refine ok_X0_surestTold h.1 (XS.refl s) (fun u X => ?_)
  unfold wp_X2_surest
  exact ok_X2_surestOf h.1 h.2.1 (fun v F _ => ⟨rfl, RL_XM h X F.MS⟩)
end
