/-! PLAIN LAWS, 8: the reference's sorts -/
def LM (s : Sg) (l : Int) (K A B : Int → Int) : Prop := s 0 2 = l ∧ ∀ i : Int, 0 ≤ i → i < l → s 2 (2 * i) = lkK (K i) ∧ s 2 (2 * i + 1) = lkN (K i) (A i) (B i)
theorem LM.of {s t : Sg} {l : Int} {K A B : Int → Int} (h : LM s l K A B) (h0 : t 0 2 = s 0 2) (h2 : t 2 = s 2) : LM t l K A B := by
  unfold LM; rw [h0, h2]; exact h
theorem ok_X2_sound {l n i st : Int} {K A B : Int → Int} {s : Sg} {Q : Int → Prop} (V : LV l K A B) (M : LM s l K A B) (i0 : 0 ≤ i) (i1 : i < l) (n0 : 3 ≤ n) (n1 : n ≤ 10) (s0 : 0 ≤ st) (s1 : st < n) (hQ : Q (Lk K A B n i st)) : wp_X2_sound i st n s Q := by
  obtain ⟨l0, l1, hV⟩ := V
  obtain ⟨b, h⟩ := hV i i0 i1
  obtain ⟨m0, m1⟩ := M.2 i i0 i1
  unfold wp_X2_sound
  rw [m0, m1]
  unfold Lk lkS at hQ
  rcases h with ⟨k, a⟩ | k | ⟨k, a, bb, ab⟩
  · rw [k] at hQ ⊢
    rw [if_pos rfl] at hQ
    refine ⟨by omega, by omega, by omega, by omega, by decide, fun z => absurd rfl z, fun _ => ?_⟩
    rw [show lkN 1 (A i) (B i) = A i from rfl]
    exact ⟨by omega, by omega, by omega, by omega, hQ⟩
  · rw [k] at hQ ⊢
    rw [if_neg (by decide), if_pos rfl] at hQ
    refine ⟨by omega, by omega, by omega, by omega, by decide, fun z => ⟨by omega, by omega, by decide, fun z => absurd rfl z, fun _ => hQ⟩, fun z => absurd z (by decide)⟩
  · rw [k] at hQ ⊢
    rw [if_neg (by decide), if_neg (by decide)] at hQ
    have e1 : lkN 3 (A i) (B i) = 10 * A i + B i := rfl
    have e2 : (10 * A i + B i) / 10 = A i := by omega
    have e3 : (10 * A i + B i) % 10 = B i := by omega
    rw [e1, e2, e3]
    have ec : lkK 3 = 3 := rfl
    rw [ec]
    refine ⟨by omega, by omega, by omega, by omega, by decide, fun z => ⟨by omega, by omega, by decide, fun z => ⟨by omega, by omega, by omega, by omega, by omega, by omega, fun q => ?_, fun q => ⟨by omega, by omega, fun q2 => ⟨by omega, by omega, fun q3 => ⟨by omega, by omega, fun q4 => ?_, fun q4 => ?_⟩, fun q3 => ?_⟩, fun q2 => ?_⟩⟩, fun z => absurd z (by decide)⟩, fun z => absurd z (by decide)⟩
    · rw [if_pos (by omega)] at hQ; exact hQ
    · rw [if_neg (by omega), if_neg (by omega), if_neg (by omega)] at hQ; exact hQ
    · rw [if_neg (by omega), if_neg (by omega), if_pos (by omega)] at hQ; exact hQ
    · rw [if_neg (by omega), if_pos (by omega)] at hQ; exact hQ
    · rw [if_pos (by omega)] at hQ; exact hQ
/-- labels on their way down -/
def LJ (ka : Nat) (s : Sg) (E : Int → Int → Int) (l m : Int) (t : Sg) : Prop :=
  (∀ k : Nat, k ≠ ka → t k = s k) ∧ (∀ c : Int, 0 ≤ c → c < m → 0 ≤ t ka c ∧ t ka c ≤ c) ∧ (∀ h : Int → Int, Inv E l m h → ∀ c : Int, 0 ≤ c → c < m → h (t ka c) = h c)
def PS (ka : Nat) (s : Sg) (E : Int → Int → Int) (l m : Int) (f : Int → Int) (p i x : Int) (t : Sg) : Prop :=
  LJ ka s E l m t ∧ ((x = 0 ∧ t ka = f ∧ ∀ c : Int, 0 ≤ c → c < m → ∀ j : Int, 0 ≤ j → j < l → (c < p ∨ (c = p ∧ j < i)) → f c = f (E j c)) ∨ (x = 1 ∧ sm (t ka) m.toNat < sm f m.toNat))
theorem PS_next {ka : Nat} {s : Sg} {E : Int → Int → Int} {l m : Int} {f : Int → Int} {p x : Int} {t : Sg} (h : PS ka s E l m f p l x t) : PS ka s E l m f (p + 1) 0 x t := by
  refine ⟨h.1, ?_⟩
  rcases h.2 with ⟨a, b, c⟩ | q
  · exact Or.inl ⟨a, b, fun d d0 d1 j j0 j1 w => c d d0 d1 j j0 j1 (by omega)⟩
  · exact Or.inr q
theorem upI_self (f : Int → Int) (j : Int) : upI f j (f j) = f := funext fun i => by
  by_cases q : i = j
  · rw [q, upI_s]
  · rw [upI_n f q]
theorem PS_step {ka : Nat} {s : Sg} {E : Int → Int → Int} {l m : Int} {f : Int → Int} {p i x v x' : Int} {t : Sg} (p0 : 0 ≤ p) (p1 : p < m) (i0 : 0 ≤ i) (i1 : i < l) (hE0 : 0 ≤ E i p) (hE1 : E i p < m) (h : PS ka s E l m f p i x t)
    (hv : v = if t ka (E i p) ≤ t ka p then t ka (E i p) else t ka p) (hx : x' = if x = 0 ∧ t ka p = t ka (E i p) then 0 else 1) : PS ka s E l m f p (i + 1) x' (up (up t ka p v) ka (E i p) v) := by
  obtain ⟨⟨F, J1, J2⟩, hc⟩ := h
  generalize hr : E i p = r at *
  have hk : (up (up t ka p v) ka r v) ka = upI (upI (t ka) p v) r v := by rw [up_k, up_k]
  have hval : ∀ c : Int, (up (up t ka p v) ka r v) ka c = if c = p ∨ c = r then v else t ka c := fun c => by
    rw [hk]
    by_cases q : c = r
    · rw [q, upI_s, if_pos (Or.inr rfl)]
    · rw [upI_n _ q]
      by_cases q2 : c = p
      · rw [q2, upI_s, if_pos (Or.inl rfl)]
      · rw [upI_n _ q2, if_neg (by omega)]
  have a1 := J1 p p0 p1
  have a2 := J1 r hE0 hE1
  have hv0 : 0 ≤ v ∧ v ≤ t ka p ∧ v ≤ t ka r ∧ (v = t ka p ∨ v = t ka r) := by
    rw [hv]; split <;> omega
  refine ⟨⟨fun k hk => by rw [up_o _ _ _ _ hk, up_o _ _ _ _ hk]; exact F k hk, fun c c0 c1 => ?_, fun h hh c c0 c1 => ?_⟩, ?_⟩
  · rw [hval]
    have := J1 c c0 c1
    by_cases q : c = p ∨ c = r
    · rw [if_pos q]
      rcases q with q | q
      · rw [q]; omega
      · rw [q]; omega
    · rw [if_neg q]; exact this
  · have e1 := J2 h hh p p0 p1
    have e2 := J2 h hh r hE0 hE1
    have e3 : h r = h p := by rw [← hr]; exact hh i i0 i1 p p0 p1
    have e4 : h v = h p := by
      rcases hv0.2.2.2 with w | w
      · rw [w]; exact e1
      · rw [w, e2]; exact e3
    rw [hval]
    by_cases q : c = p ∨ c = r
    · rw [if_pos q, e4]
      rcases q with q | q
      · rw [q]
      · rw [q]; exact e3.symm
    · rw [if_neg q]; exact J2 h hh c c0 c1
  · by_cases q : t ka p = t ka r
    · have hvp : v = t ka p := by omega
      have hsame : (up (up t ka p v) ka r v) ka = t ka := funext fun c => by
        rw [hval]
        by_cases w : c = p ∨ c = r
        · rw [if_pos w]
          rcases w with w | w
          · rw [w]; exact hvp
          · rw [w]; omega
        · rw [if_neg w]
      rw [hsame]
      rcases hc with ⟨x0, hf, hz⟩ | ⟨x1, hlt⟩
      · refine Or.inl ⟨by rw [hx, if_pos ⟨x0, q⟩], hf, fun c c0 c1 j j0 j1 w => ?_⟩
        by_cases w2 : c = p ∧ j = i
        · rw [w2.1, w2.2, hr, ← hf]; exact q
        · exact hz c c0 c1 j j0 j1 (by omega)
      · exact Or.inr ⟨by rw [hx, if_neg (by omega)], hlt⟩
    · refine Or.inr ⟨by rw [hx, if_neg (fun w => q w.2)], ?_⟩
      have hpr : p ≠ r := fun w => q (by rw [w])
      have hs : sm ((up (up t ka p v) ka r v) ka) m.toNat = sm (t ka) m.toNat + v - t ka p + v - t ka r := by
        rw [hk, sm_up _ hE0 (by omega), sm_up _ p0 (by omega), upI_n _ (fun w => hpr w.symm)]
      have hle : sm (t ka) m.toNat ≤ sm f m.toNat := by
        rcases hc with ⟨-, hf, -⟩ | ⟨-, hlt⟩
        · rw [hf]; exact Int.le_refl _
        · omega
      rw [hs]
      omega
/-- rank among the labels that are their own -/
noncomputable def rk (f : Int → Int) (c : Int) : Int := sm (fun e => b2i (f e = e)) c.toNat
theorem rk_s (f : Int → Int) {c : Int} (h : 0 ≤ c) : rk f (c + 1) = rk f c + b2i (f c = c) := sm_s _ h
theorem rk_le (f : Int → Int) {c d : Int} (h : 0 ≤ c) (hd : c ≤ d) : rk f c ≤ rk f d := by
  have key : ∀ k : Nat, rk f c ≤ rk f (c + k) := by
    intro k
    induction k with
    | zero => simp
    | succ k ih =>
      have e : c + ((k + 1 : Nat) : Int) = c + k + 1 := by omega
      rw [e, rk_s f (by omega)]
      rcases b2i_01 (f (c + k) = c + k) with q | q <;> omega
  have := key (d - c).toNat
  rw [show c + ((d - c).toNat : Int) = d by omega] at this
  exact this
theorem rk_lt (f : Int → Int) {c d : Int} (h : 0 ≤ c) (hd : c < d) (hf : f c = c) : rk f c < rk f d := by
  have h1 := rk_le f (show 0 ≤ c + 1 by omega) (show c + 1 ≤ d by omega)
  rw [rk_s f h, b2i_t hf] at h1
  omega
theorem rk_on (f : Int → Int) {m : Int} (hm : 0 ≤ m) (j : Int) (j0 : 0 ≤ j) (j1 : j < rk f m) : ∃ c : Int, 0 ≤ c ∧ c < m ∧ f c = c ∧ rk f c = j := by
  have key : ∀ k : Nat, j < rk f k → ∃ c : Int, 0 ≤ c ∧ c < k ∧ f c = c ∧ rk f c = j := by
    intro k
    induction k with
    | zero => intro h; exact absurd h (by show ¬ j < 0; omega)
    | succ k ih =>
      intro h
      rw [show ((k + 1 : Nat) : Int) = (k : Int) + 1 by omega, rk_s f (by omega)] at h
      by_cases q : j < rk f k
      · obtain ⟨c, c0, c1, c2⟩ := ih q
        exact ⟨c, c0, by omega, c2⟩
      · rcases b2i_01 (f k = k) with w | w
        · omega
        · exact ⟨k, by omega, by omega, b2i_1.mp w, by omega⟩
  have := key m.toNat (by rw [Int.toNat_of_nonneg hm]; exact j1)
  rw [Int.toNat_of_nonneg hm] at this
  exact this
theorem rk_b (f : Int → Int) {m : Int} (hm : 0 ≤ m) : 0 ≤ rk f m ∧ rk f m ≤ m := by
  have := sm_bi (f := fun e => b2i (f e = e)) 1 hm (fun k _ _ => by rcases b2i_01 (f k = k) with q | q <;> (show 0 ≤ b2i (f k = k) ∧ b2i (f k = k) ≤ 1) <;> omega)
  unfold rk; omega
theorem rk_ok {E : Int → Int → Int} {l m : Int} {f L : Int → Int} (hm : 0 ≤ m) (h1 : ∀ c : Int, 0 ≤ c → c < m → 0 ≤ f c ∧ f c ≤ c) (h2 : ∀ h : Int → Int, Inv E l m h → ∀ c : Int, 0 ≤ c → c < m → h (f c) = h c)
    (h3 : ∀ c : Int, 0 ≤ c → c < m → ∀ j : Int, 0 ≤ j → j < l → f c = f (E j c)) (hL : ∀ c : Int, 0 ≤ c → c < m → L c = rk f (f c)) (hE : ∀ i c : Int, 0 ≤ i → i < l → 0 ≤ c → c < m → 0 ≤ E i c ∧ E i c < m) : SortOk E l m L (rk f m) := by
  have hinv : Inv E l m f := fun i i0 i1 c c0 c1 => (h3 c c0 c1 i i0 i1).symm
  have hff := h2 f hinv
  have hfix : ∀ c : Int, 0 ≤ c → c < m → First L c → f c = c := fun c c0 c1 hF => by
    have a := h1 c c0 c1
    rcases Int.lt_or_eq_of_le a.2 with q | q
    · exact absurd (by rw [hL _ a.1 (by omega), hff c c0 c1, hL c c0 c1]) (hF (f c) a.1 q)
    · exact q
  refine ⟨fun c c0 c1 => ?_, fun j j0 j1 => ?_, fun i i0 i1 c c0 c1 => ?_, fun h hh c d c0 c1 d0 d1 q => ?_, fun c d c0 cd d1 f1 f2 => ?_⟩
  · have a := h1 c c0 c1
    rw [hL c c0 c1]
    exact ⟨(rk_b f a.1).1, rk_lt f a.1 (by omega) (hff c c0 c1)⟩
  · obtain ⟨c, c0, c1, c2, c3⟩ := rk_on f hm j j0 j1
    exact ⟨c, c0, c1, by rw [hL c c0 c1, c2]; exact c3⟩
  · have e := hE i c i0 i1 c0 c1
    rw [hL _ e.1 e.2, hL c c0 c1, ← h3 c c0 c1 i i0 i1]
  · rw [hL c c0 c1, hL d d0 d1] at q
    have a := h1 c c0 c1
    have b := h1 d d0 d1
    have e : f c = f d := by
      rcases Int.lt_trichotomy (f c) (f d) with w | w | w
      · have := rk_lt f a.1 w (hff c c0 c1); omega
      · exact w
      · have := rk_lt f b.1 w (hff d d0 d1); omega
    rw [← h2 h hh c c0 c1, ← h2 h hh d d0 d1, e]
  · have a := hfix c c0 (by omega) f1
    have b := hfix d (by omega) d1 f2
    rw [hL c c0 (by omega), hL d (by omega) d1, a, b]
    exact rk_lt f c0 cd a
