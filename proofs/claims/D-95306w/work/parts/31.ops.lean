/-! PLAIN LAWS, 12: the small calls -/
section
variable {s t : Sg} {a b c : Int} {Q : Int → Prop}
theorem ok_X0_isLikeness (X : XS s t) (G : GX s) (ha : Rg a) (h1 : 0 ≤ a → a < s 5000 2 → Q 1) (h0 : ¬ (0 ≤ a ∧ a < s 5000 2) → Q 0) : wp_X0_isLikeness a t Q := by
  have hb := G.b
  unfold wp_X0_isLikeness wp_J2_size
  rw [X.l]
  exact ok_X0_in ha (by omega) (by omega) (fun p q => h1 p (by omega)) (fun p => h0 (by omega))
theorem ok_X2_isLikeness (M : MC s t) (G : GX s) (ha : Rg a) (h1 : 0 ≤ a → a < s 5000 2 → Q 1) (h0 : ¬ (0 ≤ a ∧ a < s 5000 2) → Q 0) : wp_X2_isLikeness a t Q := by
  have hb := G.b
  unfold wp_X2_isLikeness
  rw [M.l]
  exact ⟨ha, by omega, ok_X2_in (by omega) (by omega) (by omega) (fun p q => h1 p (by omega)) (fun p => h0 (by omega))⟩
theorem ok_X0_isString (X : XS s t) (G : GX s) (ha : Rg a) (h1 : 0 ≤ a → a < s 1 0 → Q 1) (h0 : ¬ (0 ≤ a ∧ a < s 1 0) → Q 0) : wp_X0_isString a t Q := by
  have hb := G.b
  unfold wp_X0_isString
  rw [X.n]
  exact ok_X0_in ha (by omega) (by omega) (fun p q => h1 p (by omega)) (fun p => h0 (by omega))
theorem ok_X2_isString (M : MC s t) (G : GX s) (ha : Rg a) (h1 : 0 ≤ a → a < s 1 0 → Q 1) (h0 : ¬ (0 ≤ a ∧ a < s 1 0) → Q 0) : wp_X2_isString a t Q := by
  have hb := G.b
  unfold wp_X2_isString
  rw [M.n]
  exact ⟨ha, by omega, ok_X2_in (by omega) (by omega) (by omega) (fun p q => h1 p (by omega)) (fun p => h0 (by omega))⟩
theorem ok_X0_isChord (X : XS s t) (G : GX s) (ha : Rg a) (h1 : 0 ≤ a → a < s 1 1 → Q 1) (h0 : ¬ (0 ≤ a ∧ a < s 1 1) → Q 0) : wp_X0_isChord a t Q := by
  have hb := G.b
  unfold wp_X0_isChord
  rw [X.m]
  exact ok_X0_in ha (by omega) (by omega) (fun p q => h1 p (by omega)) (fun p => h0 (by omega))
theorem ok_X2_isChord (M : MC s t) (G : GX s) (ha : Rg a) (h1 : 0 ≤ a → a < s 1 1 → Q 1) (h0 : ¬ (0 ≤ a ∧ a < s 1 1) → Q 0) : wp_X2_isChord a t Q := by
  have hb := G.b
  unfold wp_X2_isChord
  rw [M.m G]
  exact ⟨ha, by omega, ok_X2_in (by omega) (by omega) (by omega) (fun p q => h1 p (by omega)) (fun p => h0 (by omega))⟩
def abt (s : Sg) (a b : Int) : Int := if 0 ≤ a ∧ a < s 5000 2 then (if 0 ≤ b ∧ b ≤ 1 then (if b = 0 then lkK (s 5001 a) else lkN (s 5001 a) (s 5002 a) (s 5003 a)) else -102) else -101
theorem ok_X0_about (X : XS s t) (G : GX s) (ha : Rg a) (hb : Rg b) (hQ : Q (abt s a b)) : wp_X0_about a b t Q := by
  have hg := G.b
  unfold abt at hQ
  unfold wp_X0_about
  rw [X.l]
  refine ok_X0_isLikeness X G ha (fun p q => tt1 ?_) (fun p => tt0 ?_)
  · rw [if_pos ⟨p, q⟩] at hQ
    refine ok_X0_in hb (by omega) (by omega) (fun p2 q2 => tf1 ⟨p, q, by omega, ?_⟩) (fun p2 => tf0 ?_)
    · rw [if_pos ⟨p2, q2⟩] at hQ
      unfold wp_X0_told
      rw [X.K, X.A, X.B, X.l]
      refine ⟨hb, fun h => ⟨p, q, by omega, ?_⟩, fun h => ⟨p, q, by omega, ?_⟩⟩
      · rw [if_neg h] at hQ; exact hQ
      · rw [if_pos h] at hQ; exact hQ
    · rw [if_neg p2] at hQ; exact hQ
  · rw [if_neg p] at hQ; exact hQ
theorem ok_X2_about (M : MC s t) (G : GX s) (ha : Rg a) (hb : Rg b) (hQ : Q (abt s a b)) : wp_X2_about a b t Q := by
  have hg := G.b
  unfold abt at hQ
  unfold wp_X2_about
  refine ok_X2_isLikeness M G ha (fun p q => tt1 ?_) (fun p => tt0 ?_)
  · rw [if_pos ⟨p, q⟩] at hQ
    refine ⟨hb, ok_X2_in (by omega) (by omega) (by omega) (fun p2 q2 => tf1 ⟨by omega, by omega, ?_⟩) (fun p2 => tf0 ?_)⟩
    · rw [if_pos ⟨p2, q2⟩] at hQ
      obtain ⟨e1, e2⟩ := M.1.2.1.2 a p q
      by_cases h : b = 0
      · rw [if_pos h] at hQ
        rw [h, Int.add_zero, e1]; exact hQ
      · rw [if_neg h] at hQ
        rw [show b = 1 by omega, e2]; exact hQ
    · rw [if_neg p2] at hQ; exact hQ
  · rw [if_neg p] at hQ; exact hQ
theorem lkK_v (k : Int) : lkK k = 1 ∨ lkK k = 2 ∨ lkK k = 3 := by unfold lkK; repeat' split <;> omega
def asL (s : Sg) (a b : Int) : Int := if 0 ≤ a ∧ a < s 5000 2 then (if 0 ≤ b ∧ b ≤ 3 then (if lkO (s 5001 a) b = 0 then -1 else a) else -102) else -101
theorem ok_X0_as (X : XS s t) (G : GX s) (ha : Rg a) (hb : Rg b) (hQ : Q (asL s a b)) : wp_X0_as a b t Q := by
  have hg := G.b
  unfold asL at hQ
  unfold wp_X0_as
  rw [X.l, X.K]
  refine ok_X0_isLikeness X G ha (fun p q => tt1 ?_) (fun p => tt0 ?_)
  · rw [if_pos ⟨p, q⟩] at hQ
    refine ok_X0_in hb (by omega) (by omega) (fun p2 q2 => tt1 ⟨p, q, by omega, p, q, by omega, hb, ?_⟩) (fun p2 => tt0 ?_)
    · rw [if_pos ⟨p2, q2⟩] at hQ
      refine ⟨fun h => ?_, fun h => ?_⟩
      · rw [if_pos h] at hQ; exact hQ
      · rw [if_neg h] at hQ; exact hQ
    · rw [if_neg p2] at hQ; exact hQ
  · rw [if_neg p] at hQ; exact hQ
theorem ok_X2_as (M : MC s t) (G : GX s) (ha : Rg a) (hb : Rg b) (hQ : Q (asL s a b)) : wp_X2_as a b t Q := by
  have hg := G.b
  unfold asL at hQ
  unfold wp_X2_as
  refine ok_X2_isLikeness M G ha (fun p q => tt1 ?_) (fun p => tt0 ?_)
  · rw [if_pos ⟨p, q⟩] at hQ
    refine ⟨hb, ok_X2_in (by omega) (by omega) (by omega) (fun p2 q2 => tt1 ⟨by omega, by omega, hb, ?_⟩) (fun p2 => tt0 ?_)⟩
    · rw [if_pos ⟨p2, q2⟩] at hQ
      obtain ⟨e1, e2⟩ := M.1.2.1.2 a p q
      have hv := G.1.2.2.1.2.2 a p q
      have hk : s 5001 a = 1 ∨ s 5001 a = 2 ∨ s 5001 a = 3 := by omega
      have hkk : lkK (s 5001 a) = s 5001 a := by unfold lkK; repeat' split <;> omega
      rw [e1, hkk]
      refine jn1_v (lkO (s 5001 a) b) (fun K hK => ?_) ?_
      · unfold lkO at hK
        rw [hkk] at hK
        unfold JN0
        refine ⟨fun h => ?_, fun h => ⟨hb, by omega, fun h2 => ?_, fun h2 => ⟨hb, fun h3 => ?_, fun h3 => ⟨by omega, fun h4 => ?_, fun h4 => ?_⟩⟩⟩⟩
        · rw [if_pos (by omega)] at hK; exact hK
        · rw [if_pos (by omega)] at hK; exact hK
        · rw [if_neg (by omega)] at hK; exact hK
        · rw [if_neg (by omega)] at hK; exact hK
        · rw [if_pos (by omega)] at hK; exact hK
      · refine ⟨by unfold lkO; split <;> omega, fun h => ?_, fun h => ?_⟩
        · rw [if_pos h] at hQ; exact hQ
        · rw [if_neg h] at hQ; exact hQ
    · rw [if_neg p2] at hQ; exact hQ
  · rw [if_neg p] at hQ; exact hQ
def snd1 (s : Sg) (a b : Int) : Int := if 0 ≤ a ∧ a < s 5000 2 then (if 0 ≤ b ∧ b < s 1 0 then Lk (s 5001) (s 5002) (s 5003) (s 1 0) a b else -101) else -101
theorem ok_X0_sounds (X : XS s t) (G : GX s) (ha : Rg a) (hb : Rg b) (hQ : Q (snd1 s a b)) : wp_X0_sounds a b t Q := by
  have hg := G.b
  unfold snd1 at hQ
  unfold wp_X0_sounds
  rw [X.l, X.n, X.K, X.A, X.B]
  refine ok_X0_isLikeness X G ha (fun p q => tf1 ?_) (fun p => tf0 ?_)
  · rw [if_pos ⟨p, q⟩] at hQ
    refine ok_X0_in hb (by omega) (by omega) (fun p2 q2 => tf1 ?_) (fun p2 => tf0 ?_)
    · rw [if_pos ⟨p2, by omega⟩] at hQ
      exact ⟨p, q, by omega, p, q, by omega, LV_P G.1.2.2.1 p q p2 (by omega) (by omega), hQ⟩
    · rw [if_neg (by omega)] at hQ; exact hQ
  · rw [if_neg p] at hQ; exact hQ
theorem ok_X2_sounds (M : MC s t) (G : GX s) (ha : Rg a) (hb : Rg b) (hQ : Q (snd1 s a b)) : wp_X2_sounds a b t Q := by
  have hg := G.b
  unfold snd1 at hQ
  unfold wp_X2_sounds
  rw [M.n]
  refine ok_X2_isLikeness M G ha (fun p q => tf1 ?_) (fun p => tf0 ?_)
  · rw [if_pos ⟨p, q⟩] at hQ
    refine ok_X2_isString M G hb (fun p2 q2 => tf1 ?_) (fun p2 => tf0 ?_)
    · rw [if_pos ⟨p2, q2⟩] at hQ
      exact ok_X2_sound G.1.2.2.1 M.1.2.1 p q (by omega) (by omega) p2 q2 hQ
    · rw [if_neg p2] at hQ; exact hQ
  · rw [if_neg p] at hQ; exact hQ
noncomputable def chd (s : Sg) (a b c : Int) : Int := @ite _ (dst (s 1 0) a b c) (Classical.propDecidable _) (num (s 1 0) a b c) (-101)
theorem chd_t (h : dst (s 1 0) a b c) : chd s a b c = num (s 1 0) a b c := if_pos h
theorem chd_f (h : ¬ dst (s 1 0) a b c) : chd s a b c = -101 := if_neg h
theorem ok_X0_chord (X : XS s t) (G : GX s) (ha : Rg a) (hb : Rg b) (hc : Rg c) (hQ : Q (chd s a b c)) : wp_X0_chord a b c t Q := by
  have hg := G.b
  have hF : ¬ dst (s 1 0) a b c → Q (-101) := fun h => by rw [chd_f h] at hQ; exact hQ
  unfold dst at hF
  unfold wp_X0_chord
  refine ok_X0_isString X G ha (fun p1 q1 => tf1 ?_) (fun p => tf0 (hF (by omega)))
  refine ok_X0_isString X G hb (fun p2 q2 => tf1 ?_) (fun p => tf0 (hF (by omega)))
  refine ok_X0_isString X G hc (fun p3 q3 => tf1 ?_) (fun p => tf0 (hF (by omega)))
  refine ⟨ha, hb, fun h => hF (by omega), fun h1 => ⟨ha, hc, fun h => hF (by omega), fun h2 => ⟨hb, hc, fun h3 => ?_, fun h => hF (by omega)⟩⟩⟩
  have hd : dst (s 1 0) a b c := by unfold dst; omega
  rw [chd_t hd] at hQ
  exact ok_X1_number (TBx_XS X G.1.1) hd hQ
theorem ok_X2_chord (M : MC s t) (G : GX s) (ha : Rg a) (hb : Rg b) (hc : Rg c) (hQ : Q (chd s a b c)) : wp_X2_chord a b c t Q := by
  have hg := G.b
  unfold wp_X2_chord
  rw [M.n]
  have fin : ∀ v : Int, (v = 0 ∧ ¬ dst (s 1 0) a b c) ∨ (v = 1 ∧ dst (s 1 0) a b c) → (Rg v) ∧ ((v = 0) → Q (-101)) ∧ ((¬ v = 0) → wp_X2_numberOf a b c (s 1 0) (fun r_7 => Q r_7)) := fun v hv => by
    refine ⟨by omega, fun h => ?_, fun h => ?_⟩
    · rcases hv with w | w
      · rw [chd_f w.2] at hQ; exact hQ
      · omega
    · rcases hv with w | w
      · omega
      · rw [chd_t w.2] at hQ
        exact ok_X2_numberOf (by omega) (by omega) w.2 hQ
  unfold JN1 JN0
  have hF : ¬ dst (s 1 0) a b c → (Rg 0) ∧ (((0 : Int) = 0) → Q (-101)) ∧ ((¬ (0 : Int) = 0) → wp_X2_numberOf a b c (s 1 0) (fun r_7 => Q r_7)) := fun h => fin 0 (Or.inl ⟨rfl, h⟩)
  have hT : dst (s 1 0) a b c → (Rg 1) ∧ (((1 : Int) = 0) → Q (-101)) ∧ ((¬ (1 : Int) = 0) → wp_X2_numberOf a b c (s 1 0) (fun r_7 => Q r_7)) := fun h => fin 1 (Or.inr ⟨rfl, h⟩)
  unfold dst at hF hT
  refine ok_X2_isString M G ha (fun p1 q1 => tf1 ?_) (fun p => tf0 (hF (by omega)))
  refine ok_X2_isString M G hb (fun p2 q2 => tf1 ?_) (fun p => tf0 (hF (by omega)))
  refine ok_X2_isString M G hc (fun p3 q3 => tf1 ?_) (fun p => tf0 (hF (by omega)))
  exact ⟨ha, hb, fun h => hF (by omega), fun h1 => ⟨ha, hc, fun h => hF (by omega), fun h2 => ⟨hb, hc, fun h => hF (by omega), fun h3 => hT (by omega)⟩⟩⟩
def prt (s : Sg) (a b : Int) : Int := if 0 ≤ a ∧ a < s 1 1 then (if 0 ≤ b ∧ b ≤ 3 then (if b = 3 then s 19 a else tp (s 1 0) a b) else -102) else -101
theorem ok_X0_part (X : XS s t) (G : GX s) (ha : Rg a) (hb : Rg b) (hQ : Q (prt s a b)) : wp_X0_part a b t Q := by
  have hg := G.b
  unfold prt at hQ
  unfold wp_X0_part
  rw [X.L]
  refine ok_X0_isChord X G ha (fun p q => tt1 ?_) (fun p => tt0 ?_)
  · rw [if_pos ⟨p, q⟩] at hQ
    refine ok_X0_in hb (by omega) (by omega) (fun p2 q2 => tt1 ?_) (fun p2 => tt0 ?_)
    · rw [if_pos ⟨p2, q2⟩] at hQ
      refine ⟨hb, fun h => ⟨p, by omega, ?_⟩, fun h => ⟨p, by omega, p2, by omega, ?_⟩⟩
      · rw [if_pos (by omega)] at hQ; exact hQ
      · rw [if_neg (by omega)] at hQ
        rw [X.tq p (by omega)]
        obtain ⟨e0, e1, e2⟩ := G.tp p q
        rcases (show b = 0 ∨ b = 1 ∨ b = 2 by omega) with rfl | rfl | rfl
        · rw [e0]; exact hQ
        · rw [e1]; exact hQ
        · rw [e2]; exact hQ
    · rw [if_neg p2] at hQ; exact hQ
  · rw [if_neg p] at hQ; exact hQ
theorem ok_X2_part (M : MC s t) (G : GX s) (ha : Rg a) (hb : Rg b) (hQ : Q (prt s a b)) : wp_X2_part a b t Q := by
  have hg := G.b
  unfold prt at hQ
  unfold wp_X2_part
  refine ok_X2_isChord M G ha (fun p q => tt1 ?_) (fun p => tt0 ?_)
  · rw [if_pos ⟨p, q⟩] at hQ
    refine ⟨hb, ok_X2_in (by omega) (by omega) (by omega) (fun p2 q2 => tf1 ⟨by omega, by omega, ?_⟩) (fun p2 => tf0 ⟨hb, fun h => ?_, fun h => ⟨p, by omega, ?_⟩⟩)⟩
    · rw [if_pos (by omega), if_neg (by omega)] at hQ
      obtain ⟨e0, e1, e2⟩ := M.tp G p q
      rcases (show b = 0 ∨ b = 1 ∨ b = 2 by omega) with rfl | rfl | rfl
      · rw [Int.add_zero, e0]; exact hQ
      · rw [e1]; exact hQ
      · rw [e2]; exact hQ
    · rw [if_neg (by omega)] at hQ; exact hQ
    · rw [if_pos (by omega), if_pos h] at hQ
      rw [M.L p q]; exact hQ
  · rw [if_neg p] at hQ; exact hQ
noncomputable def srt2 (s : Sg) (a b : Int) : Int := if 0 ≤ a ∧ a < s 1 2 then (if 0 ≤ b ∧ b ≤ 2 then srt1 s a b else -102) else -101
theorem ok_X0_sort (X : XS s t) (G : GX s) (ha : Rg a) (hb : Rg b) (hQ : Q (srt2 s a b)) : wp_X0_sort a b t Q := by
  have hg := G.b
  unfold srt2 at hQ
  unfold wp_X0_sort
  rw [X.g]
  refine ok_X0_in ha (by omega) (by omega) (fun p q => tt1 ?_) (fun p => tt0 ?_)
  · rw [if_pos ⟨p, by omega⟩] at hQ
    refine ok_X0_in hb (by omega) (by omega) (fun p2 q2 => tf1 ?_) (fun p2 => tf0 ?_)
    · rw [if_pos ⟨p2, q2⟩] at hQ
      exact ok_X0_sortTold G X p (by omega) hb hQ
    · rw [if_neg p2] at hQ; exact hQ
  · rw [if_neg (by omega)] at hQ; exact hQ
theorem ok_X2_sort (M : MC s t) (G : GX s) (ha : Rg a) (hb : Rg b) (hQ : Q (srt2 s a b)) : wp_X2_sort a b t Q := by
  have hg := G.b
  unfold srt2 at hQ
  unfold wp_X2_sort
  rw [M.g]
  refine ⟨ha, by omega, ok_X2_in (by omega) (by omega) (by omega) (fun p q => tf1 ?_) (fun p => tf0 ?_)⟩
  · rw [if_pos ⟨p, by omega⟩] at hQ
    exact ok_X2_tellSort G M p (by omega) hb hQ
  · rw [if_neg (by omega)] at hQ; exact hQ
noncomputable def hda (s : Sg) (a : Int) : Int := if 0 ≤ a ∧ a < s 1 1 then asW s a else -101
theorem ok_X0_heardAs (X : XS s t) (G : GX s) (ha : Rg a) (hQ : Q (hda s a)) : wp_X0_heardAs a t Q := by
  unfold hda at hQ
  unfold wp_X0_heardAs
  refine ok_X0_isChord X G ha (fun p q => tf1 (ok_X0_asWhat G X p q ?_)) (fun p => tf0 ?_)
  · rw [if_pos ⟨p, q⟩] at hQ; exact hQ
  · rw [if_neg p] at hQ; exact hQ
theorem ok_X2_heardAs (M : MC s t) (G : GX s) (ha : Rg a) (hQ : Q (hda s a)) : wp_X2_heardAs a t Q := by
  unfold hda at hQ
  unfold wp_X2_heardAs
  refine ok_X2_isChord M G ha (fun p q => tf1 (ok_X2_asOf G M p q ?_)) (fun p => tf0 ?_)
  · rw [if_pos ⟨p, q⟩] at hQ; exact hQ
  · rw [if_neg p] at hQ; exact hQ
noncomputable def lft (s : Sg) (a : Int) : Int := if 0 ≤ a ∧ a ≤ 1 then lfs s a else -102
theorem ok_X0_left (X : XS s t) (G : GX s) (ha : Rg a) (hQ : Q (lft s a)) : wp_X0_left a t Q := by
  unfold lft at hQ
  unfold wp_X0_left
  refine ok_X0_in ha (by omega) (by omega) (fun p q => tf1 (ok_X0_leftTold G X ha ?_)) (fun p => tf0 ?_)
  · rw [if_pos ⟨p, q⟩] at hQ; exact hQ
  · rw [if_neg p] at hQ; exact hQ
theorem ok_X2_left (M : MC s t) (G : GX s) (ha : Rg a) (hQ : Q (lft s a)) : wp_X2_left a t Q := by
  unfold lft at hQ
  unfold wp_X2_left
  refine ⟨ha, ok_X2_in (by omega) (by omega) (by omega) (fun p q => tf1 (ok_X2_leftOf G M ha ?_)) (fun p => tf0 ?_)⟩
  · rw [if_pos ⟨p, q⟩] at hQ; exact hQ
  · rw [if_neg p] at hQ; exact hQ
/-- how many of the chords below c are not heard -/
noncomputable def unh (s : Sg) (c : Int) : Int := sm (fun c => b2i (asW s c = -1)) c.toNat
theorem unh_s (s : Sg) (h : 0 ≤ c) : unh s (c + 1) = unh s c + b2i (asW s c = -1) := sm_s _ h
noncomputable def nth1 (s : Sg) (a : Int) : Int := if 0 ≤ a ∧ a ≤ 83 then ff (fun c => asW s c = -1 ∧ unh s c = a) (s 1 1).toNat else -102
theorem ok_X0_nth (X : XS s t) (G : GX s) (ha : Rg a) (hQ : Q (nth1 s a)) : wp_X0_nth a t Q := by
  have hg := G.b
  unfold nth1 at hQ
  unfold wp_X0_nth
  rw [X.m]
  refine ok_X0_in ha (by omega) (by omega) (fun p q => tt1 ?_) (fun p => tt0 ?_)
  · rw [if_pos ⟨p, q⟩] at hQ
    refine ⟨fun v c => 0 ≤ c ∧ c ≤ s 1 1 ∧ 0 ≤ v ∧ v = a - unh s c ∧ ∀ d : Int, 0 ≤ d → d < c → ¬ (asW s d = -1 ∧ unh s d = a), fun v c => (s 1 1 - c).toNat, ⟨by omega, by omega, p, by show a = a - 0; omega, fun d d0 d1 => by omega⟩, fun v c ⟨c0, c1, v0, hv, hd⟩ => ⟨by omega, by omega, fun h => ?_, fun h => ?_⟩⟩
    · have e : c = s 1 1 := by omega
      rw [e] at hd
      rw [ff_none hd] at hQ
      exact hQ
    · have hab := asW_b G c
      refine ok_X0_asWhat G X c0 h ⟨by omega, ?_⟩
      unfold JN1
      have hs := unh_s s c0
      refine ⟨fun w => ⟨⟨by omega, by omega, v0, by rw [hs, b2i_f w]; omega, fun d d0 d1 => ?_⟩, by dsimp only; omega⟩, fun w => ⟨by unfold unh at hv; have := sm_bi (f := fun c => b2i (asW s c = -1)) 1 c0 (fun k _ _ => by rcases b2i_01 (asW s k = -1) with z | z <;> (show 0 ≤ b2i (asW s k = -1) ∧ b2i (asW s k = -1) ≤ 1) <;> omega); omega, fun w2 => ⟨⟨by omega, by omega, by omega, by rw [hs, b2i_t w]; omega, fun d d0 d1 => ?_⟩, by dsimp only; omega⟩, fun w2 => ?_⟩⟩
      · by_cases z : d = c
        · rw [z]; exact fun y => w y.1
        · exact hd d d0 (by omega)
      · by_cases z : d = c
        · rw [z]; exact fun y => by have := y.2; omega
        · exact hd d d0 (by omega)
      · rw [ff_hit c0 h ⟨w, by omega⟩ hd] at hQ
        exact hQ
  · rw [if_neg p] at hQ; exact hQ
theorem ok_X2_nth (M : MC s t) (G : GX s) (ha : Rg a) (hQ : Q (nth1 s a)) : wp_X2_nth a t Q := by
  have hg := G.b
  unfold nth1 at hQ
  unfold wp_X2_nth
  rw [M.m G]
  refine ⟨ha, ok_X2_in (by omega) (by omega) (by omega) (fun p q => tt1 ?_) (fun p => tt0 ?_)⟩
  · rw [if_pos ⟨p, q⟩] at hQ
    refine ⟨fun v c => 0 ≤ c ∧ c ≤ s 1 1 ∧ 0 ≤ v ∧ v ≤ c ∧ v = unh s c ∧ ∀ d : Int, 0 ≤ d → d < c → ¬ (asW s d = -1 ∧ unh s d = a), fun v c => (s 1 1 - c).toNat, ⟨by omega, by omega, by omega, by omega, rfl, fun d d0 d1 => by omega⟩, fun v c ⟨c0, c1, v0, v1, hv, hd⟩ => ⟨by omega, by omega, fun h => ?_, fun h => ?_⟩⟩
    · have e : c = s 1 1 := by omega
      rw [e] at hd
      rw [ff_none hd] at hQ
      exact hQ
    · have hab := asW_b G c
      refine ok_X2_asOf G M c0 h ⟨by omega, ?_⟩
      unfold JN1
      have hs := unh_s s c0
      refine ⟨fun w => ⟨⟨by omega, by omega, v0, by omega, by rw [hs, b2i_f w]; omega, fun d d0 d1 => ?_⟩, by dsimp only; omega⟩, fun w => ⟨by omega, by omega, fun w2 => ⟨⟨by omega, by omega, by omega, by omega, by rw [hs, b2i_t w]; omega, fun d d0 d1 => ?_⟩, by dsimp only; omega⟩, fun w2 => ?_⟩⟩
      · by_cases z : d = c
        · rw [z]; exact fun y => w y.1
        · exact hd d d0 (by omega)
      · by_cases z : d = c
        · rw [z]; exact fun y => by have := y.2; omega
        · exact hd d d0 (by omega)
      · rw [ff_hit c0 h ⟨w, by omega⟩ hd] at hQ
        exact hQ
  · rw [if_neg p] at hQ; exact hQ
def cnt1 (s : Sg) (a : Int) : Int := if a = 0 then s 1 0 else if a = 1 then s 1 1 else if a = 2 then s 5000 2 else if a = 3 then s 1 2 else if a = 4 then s 0 9 else if a = 5 then s 0 14 else if a = 6 then s 0 3 else if a = 7 then s 0 19 else -102
theorem ok_X0_countOf (X : XS s t) (ha : Rg a) (hQ : Q (cnt1 s a)) : wp_X0_countOf a t Q := by
  unfold wp_X0_countOf wp_J2_size
  rw [X.n, X.m, X.l, X.g, X.h, X.sh, X.pg, X.ask]
  refine ⟨ha, ?_, ?_, ?_, ?_, ?_, ?_, ?_, ?_, ?_⟩
  · intro e; subst e; exact hQ
  · intro e; subst e; exact hQ
  · intro e; subst e; exact hQ
  · intro e; subst e; exact hQ
  · intro e; subst e; exact hQ
  · intro e; subst e; exact hQ
  · intro e; subst e; exact hQ
  · intro e; subst e; exact hQ
  · intro e
    unfold cnt1 at hQ
    repeat rw [if_neg (by omega)] at hQ
    exact hQ
theorem ok_X2_countOf (M : MC s t) (G : GX s) (ha : Rg a) (hQ : Q (cnt1 s a)) : wp_X2_countOf a t Q := by
  unfold wp_X2_countOf
  rw [M.n, M.m G, M.l, M.g, M.h, M.sh, M.pg, M.ask]
  refine ⟨ha, ?_, ?_, ?_, ?_, ?_, ?_, ?_, ?_, ?_⟩
  · intro e; subst e; exact hQ
  · intro e; subst e; exact hQ
  · intro e; subst e; exact hQ
  · intro e; subst e; exact hQ
  · intro e; subst e; exact hQ
  · intro e; subst e; exact hQ
  · intro e; subst e; exact hQ
  · intro e; subst e; exact hQ
  · intro e
    unfold cnt1 at hQ
    repeat rw [if_neg (by omega)] at hQ
    exact hQ
end
