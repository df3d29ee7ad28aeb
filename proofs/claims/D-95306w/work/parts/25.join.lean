/-! PLAIN LAWS, 6: x joins its chords to sorts -/
def CI (kc kr ks kl kz : Nat) : Prop := 1 ≤ kc ∧ kc ≤ 2 ∧ 19 ≤ ks ∧ ks ≤ 25 ∧ 19 ≤ kl ∧ kl ≤ 25 ∧ 19 ≤ kz ∧ kz ≤ 25 ∧ ks ≠ kl ∧ ks ≠ kz ∧ kl ≠ kz ∧ 36 ≤ kr ∧ kr + 120 ≤ 276
theorem CI_1 : CI 1 36 19 20 21 := by unfold CI; omega
theorem CI_2 : CI 2 156 23 24 25 := by unfold CI; omega
def LVs (s : Sg) : Prop := LV (s 5000 2) (s 5001) (s 5002) (s 5003)
def Eds (s : Sg) (n : Int) : Int → Int → Int := Ed (s 5001) (s 5002) (s 5003) n
theorem LV_P {l n i st : Int} {K A B : Int → Int} (V : LV l K A B) (i0 : 0 ≤ i) (i1 : i < l) (h0 : 0 ≤ st) (h1 : st < n) (hn : n ≤ 10) : lkP (K i) (A i) (B i) st n := by
  obtain ⟨b, h⟩ := V.2.2 i i0 i1
  unfold lkP
  omega
theorem ok_X1_sounds {kc kr ks kl kz : Nat} {n c i : Int} {s : Sg} {Q : Int → Prop} (T : TBx kc kr s n) (V : LVs s) (c0 : 0 ≤ c) (c1 : c < C3 n) (i0 : 0 ≤ i) (i1 : i < s 5000 2) (hQ : Q (Eds s n i c)) : wp_X1_sounds kc kr ks kl kz c i s Q := by
  have n0 := T.1
  have n1 := T.2.1
  have hb := C3_b (show 0 ≤ n by omega) n1
  obtain ⟨t0, t1, t2⟩ := T.2.2.2.2 c c0 c1
  have e0 := T.2.2.1
  have ht := tp_in n1 c0 c1
  have hl := V.2.1
  unfold wp_X1_sounds
  rw [t0, t1, t2, e0]
  refine ⟨c0, by omega, i0, i1, hl, LV_P V i0 i1 (by omega) (by omega) n1, i0, i1, hl, LV_P V i0 i1 (by omega) (by omega) n1, i0, i1, hl, LV_P V i0 i1 (by omega) (by omega) n1, ?_⟩
  exact ok_X1_number T (Ed_dst V i0 i1 n0 n1 c0 c1) hQ
/-- what spreading from a chord f leaves: e chords in the queue, k of them done, and the likenesses below j for the k-th -/
def SP (ks : Nat) (s : Sg) (E : Int → Int → Int) (l m g f : Int) (e k j : Int) (t : Sg) : Prop :=
  (∀ (q : Nat) (w : Int), q ≠ ks → q ≠ 4 → t q w = s q w) ∧
  (∀ c : Int, 0 ≤ c → c < m → (s ks c ≠ -1 → t ks c = s ks c) ∧ (s ks c = -1 → t ks c = -1 ∨ t ks c = g)) ∧
  (∀ i : Int, 0 ≤ i → i < e → 0 ≤ t 4 i ∧ t 4 i < m ∧ t ks (t 4 i) = g) ∧
  (∀ c : Int, 0 ≤ c → c < m → t ks c = g → ∃ i : Int, 0 ≤ i ∧ i < e ∧ t 4 i = c) ∧
  (∀ h : Int → Int, Inv E l m h → ∀ c : Int, 0 ≤ c → c < m → t ks c = g → h c = h f) ∧
  e = cnt (t ks) m g ∧ t ks f = g ∧
  (∀ i : Int, 0 ≤ i → i < e → ∀ a : Int, 0 ≤ a → a < l → (i < k ∨ (i = k ∧ a < j)) → t ks (E a (t 4 i)) = g)
theorem ok_X0_spread {kc kr ks kl kz : Nat} {n f g : Int} {s : Sg} {Q : Int → Sg → Prop} (ci : CI kc kr ks kl kz) (T : TBx kc kr s n) (V : LVs s) (f0 : 0 ≤ f) (f1 : f < C3 n) (hf : s ks f = -1) (hg : s kc 2 = g) (g0 : 0 ≤ g) (g1 : g ≤ C3 n)
    (h0 : ∀ c : Int, 0 ≤ c → c < C3 n → s ks c = -1 ∨ (0 ≤ s ks c ∧ s ks c < g)) (hc : ∀ c : Int, 0 ≤ c → c < C3 n → s ks c ≠ -1 → ∀ i : Int, 0 ≤ i → i < s 5000 2 → s ks (Eds s n i c) = s ks c)
    (hQ : ∀ (e : Int) (t : Sg), SP ks s (Eds s n) (s 5000 2) (C3 n) g f e e 0 t → Q e t) : wp_X0_spread kc kr ks kl kz f s Q := by
  unfold CI at ci
  have n0 := T.1
  have n1 := T.2.1
  have hb := C3_b (show 0 ≤ n by omega) n1
  have hl := V.1
  have hl2 := V.2.1
  have hE : ∀ i c : Int, 0 ≤ i → i < s 5000 2 → 0 ≤ c → c < C3 n → 0 ≤ Eds s n i c ∧ Eds s n i c < C3 n := fun i c i0 i1 c0 c1 => Ed_in V i0 i1 n0 n1 c0 c1
  have start : SP ks s (Eds s n) (s 5000 2) (C3 n) g f 1 0 0 (up (up s 4 0 f) ks f g) := by
    have e4 : (up (up s 4 0 f) ks f g) 4 0 = f := by rw [up_o _ _ _ _ (show 4 ≠ ks by omega)]; exact up_s _ _ _ _
    have eL : ∀ c : Int, (up (up s 4 0 f) ks f g) ks c = if c = f then g else s ks c := fun c => by
      rw [up_at, up_at]
      by_cases q : c = f
      · rw [if_pos ⟨rfl, q⟩, if_pos q]
      · rw [if_neg (fun z => q z.2), if_neg (by omega), if_neg q]
    refine ⟨fun q w q1 q2 => by rw [up_o _ _ _ _ q1, up_o _ _ _ _ q2], fun c c0 c1 => ⟨fun z => ?_, fun z => ?_⟩, fun i i0 i1 => ?_, fun c c0 c1 z => ⟨0, by omega, by omega, ?_⟩, fun h hh c c0 c1 z => ?_, ?_, ?_, fun i i0 i1 a a0 a1 z => by omega⟩
    · rw [eL, if_neg (fun q => z (by rw [q]; exact hf))]
    · rw [eL]
      by_cases q : c = f
      · rw [if_pos q]; exact Or.inr rfl
      · rw [if_neg q]; exact Or.inl z
    · have : i = 0 := by omega
      subst this
      rw [e4, eL, if_pos rfl]
      exact ⟨f0, f1, rfl⟩
    · rw [e4]
      rw [eL] at z
      by_cases q : c = f
      · exact q.symm
      · rw [if_neg q] at z
        have := h0 c c0 c1
        omega
    · rw [eL] at z
      by_cases q : c = f
      · rw [q]
      · rw [if_neg q] at z
        have := h0 c c0 c1
        omega
    · have e1 : cnt ((up (up s 4 0 f) ks f g) ks) (C3 n) g = cnt (upI (s ks) f g) (C3 n) g := cnt_c (fun c c0 c1 => by rw [eL]; rfl)
      rw [e1, cnt_up f0 f1 (by rw [hf]; omega), if_pos rfl, cnt_0 (fun c c0 c1 z => by have := h0 c c0 c1; omega)]
      rfl
    · rw [eL, if_pos rfl]
  have step : ∀ (e k j : Int) (t : Sg), SP ks s (Eds s n) (s 5000 2) (C3 n) g f e k j t → 0 ≤ k → k < e → 0 ≤ j → j < s 5000 2 →
      ((t ks (Eds s n j (t 4 k)) ≠ -1 → SP ks s (Eds s n) (s 5000 2) (C3 n) g f e k (j + 1) t) ∧
       (t ks (Eds s n j (t 4 k)) = -1 → e + 1 ≤ C3 n ∧ SP ks s (Eds s n) (s 5000 2) (C3 n) g f (e + 1) k (j + 1) (up (up t ks (Eds s n j (t 4 k)) g) 4 e (Eds s n j (t 4 k))))) := by
    intro e k j t ⟨F, A1, A3, A4, A5, A6, A8, A7⟩ k0 k1 j0 j1
    obtain ⟨q0, q1, q2⟩ := A3 k k0 k1
    obtain ⟨r0, r1⟩ := hE j (t 4 k) j0 j1 q0 q1
    generalize hr : Eds s n j (t 4 k) = r at r0 r1 ⊢
    refine ⟨fun z => ?_, fun z => ?_⟩
    · have hrg : t ks r = g := by
        by_cases y : s ks r = -1
        · rcases (A1 r r0 r1).2 y with w | w
          · exact absurd w z
          · exact w
        · exfalso
          have hP := Ed_back V j0 j1 n0 n1 (P := fun x => s ks x = s ks r) (fun x x0 x1 hx => by
            show s ks (Eds s n j x) = s ks r
            rw [hc x x0 x1 (by rw [hx]; exact y) j j0 j1]; exact hx) q0 q1 (by show s ks (Eds s n j (t 4 k)) = s ks r; rw [hr])
          have hP : s ks (t 4 k) = s ks r := hP
          have h2 := (A1 _ q0 q1).1 (by rw [hP]; exact y)
          rcases h0 r r0 r1 with w | w
          · exact y w
          · omega
      refine ⟨F, A1, A3, A4, A5, A6, A8, fun i i0 i1 a a0 a1 w => ?_⟩
      rcases w with w | ⟨w, w2⟩
      · exact A7 i i0 i1 a a0 a1 (Or.inl w)
      · by_cases w3 : a = j
        · rw [w, w3, hr]; exact hrg
        · exact A7 i i0 i1 a a0 a1 (Or.inr ⟨w, by omega⟩)
    · have eL : ∀ c : Int, (up (up t ks r g) 4 e r) ks c = if c = r then g else t ks c := fun c => by
        rw [up_o _ _ _ _ (show ks ≠ 4 by omega), up_at]
        by_cases q : c = r
        · rw [if_pos ⟨rfl, q⟩, if_pos q]
        · rw [if_neg (fun z => q z.2), if_neg q]
      have eq : ∀ i : Int, (up (up t ks r g) 4 e r) 4 i = if i = e then r else t 4 i := fun i => by
        rw [up_at, up_at]
        by_cases q : i = e
        · rw [if_pos ⟨rfl, q⟩, if_pos q]
        · rw [if_neg (fun z => q z.2), if_neg (by omega), if_neg q]
      have hcnt : cnt ((up (up t ks r g) 4 e r) ks) (C3 n) g = e + 1 := by
        have e1 : cnt ((up (up t ks r g) 4 e r) ks) (C3 n) g = cnt (upI (t ks) r g) (C3 n) g := cnt_c (fun c c0 c1 => by rw [eL]; rfl)
        rw [e1, cnt_up r0 r1 (by rw [z]; omega), if_pos rfl, ← A6]
      have hle := (cnt_b ((up (up t ks r g) 4 e r) ks) g hb.1).2
      have hsr : s ks r = -1 := by
        by_cases y : s ks r = -1
        · exact y
        · have := (A1 r r0 r1).1 y
          omega
      refine ⟨by omega, fun q w w1 w2 => by rw [up_o _ _ _ _ w2, up_o _ _ _ _ w1]; exact F q w w1 w2, fun c c0 c1 => ⟨fun y => ?_, fun y => ?_⟩, fun i i0 i1 => ?_, fun c c0 c1 y => ?_, fun h hh c c0 c1 y => ?_, hcnt.symm, ?_, fun i i0 i1 a a0 a1 w => ?_⟩
      · rw [eL, if_neg (fun q => y (by rw [q]; exact hsr))]
        exact (A1 c c0 c1).1 y
      · rw [eL]
        by_cases q : c = r
        · rw [if_pos q]; exact Or.inr rfl
        · rw [if_neg q]; exact (A1 c c0 c1).2 y
      · rw [eq]
        by_cases q : i = e
        · rw [if_pos q, eL, if_pos rfl]
          exact ⟨r0, r1, rfl⟩
        · rw [if_neg q, eL]
          obtain ⟨b0, b1, b2⟩ := A3 i i0 (by omega)
          refine ⟨b0, b1, ?_⟩
          by_cases q2 : t 4 i = r
          · rw [if_pos q2]
          · rw [if_neg q2]; exact b2
      · rw [eL] at y
        by_cases q : c = r
        · exact ⟨e, by omega, by omega, by rw [eq, if_pos rfl]; exact q.symm⟩
        · rw [if_neg q] at y
          obtain ⟨i, i0, i1, i2⟩ := A4 c c0 c1 y
          exact ⟨i, i0, by omega, by rw [eq, if_neg (by omega)]; exact i2⟩
      · rw [eL] at y
        by_cases q : c = r
        · rw [q, ← hr]
          have e1 : h (Eds s n j (t 4 k)) = h (t 4 k) := hh j j0 j1 _ q0 q1
          rw [e1]
          exact A5 h hh _ q0 q1 q2
        · rw [if_neg q] at y
          exact A5 h hh c c0 c1 y
      · rw [eL]
        by_cases q : f = r
        · rw [if_pos q]
        · rw [if_neg q]; exact A8
      · have hi : i ≠ e := by omega
        rw [eq, if_neg hi, eL]
        by_cases q : Eds s n a (t 4 i) = r
        · rw [if_pos q]
        · rw [if_neg q]
          rcases w with w | ⟨w, w2⟩
          · exact A7 i i0 (by omega) a a0 a1 (Or.inl w)
          · by_cases w3 : a = j
            · exfalso; apply q; rw [w, w3]; exact hr
            · exact A7 i i0 (by omega) a a0 a1 (Or.inr ⟨w, by omega⟩)
  have fr : ∀ (e k j : Int) (t : Sg), SP ks s (Eds s n) (s 5000 2) (C3 n) g f e k j t → t 5000 2 = s 5000 2 ∧ TBx kc kr t n ∧ LVs t ∧ Eds t n = Eds s n ∧ t kc 2 = g ∧ e ≤ C3 n := by
    intro e k j t ⟨F, A1, A3, A4, A5, A6, A8, A7⟩
    have hF : ∀ q : Nat, q ≠ ks → q ≠ 4 → t q = s q := fun q h1 h2 => funext fun w => F q w h1 h2
    have e1 := hF 5001 (by omega) (by omega)
    have e2 := hF 5002 (by omega) (by omega)
    have e3 := hF 5003 (by omega) (by omega)
    have e5 := hF 5000 (by omega) (by omega)
    have ec := hF kc (by omega) (by omega)
    have hle := (cnt_b (t ks) g hb.1).2
    refine ⟨by rw [e5], ⟨n0, n1, by rw [ec]; exact T.2.2.1, by rw [ec]; exact T.2.2.2.1, fun k k0 k1 => ?_⟩, ?_, ?_, by rw [ec]; exact hg, by omega⟩
    · rw [hF (kr + k.toNat) (by omega) (by omega)]
      exact T.2.2.2.2 k k0 k1
    · unfold LVs; rw [e1, e2, e3, e5]; exact V
    · unfold Eds; rw [e1, e2, e3]
  unfold wp_X0_spread
  have e9 : (up s 4 0 f) kc 2 = g := by rw [up_o _ _ _ _ (show kc ≠ 4 by omega)]; exact hg
  rw [e9]
  refine ⟨f0, by omega, fun e k t => 0 ≤ k ∧ k ≤ e ∧ SP ks s (Eds s n) (s 5000 2) (C3 n) g f e k 0 t, fun e k t => (C3 n - k).toNat, ⟨by omega, by omega, start⟩, fun e k t ⟨k0, k1, h⟩ => ?_⟩
  obtain ⟨x5, xT, xV, xE, xg, xe⟩ := fr e k 0 t h
  refine ⟨by omega, by omega, fun z => ?_, fun z => ?_⟩
  · have : k = e := by omega
    rw [this] at h
    exact hQ e t h
  · refine ⟨fun e j t => 0 ≤ j ∧ j ≤ s 5000 2 ∧ k < e ∧ SP ks s (Eds s n) (s 5000 2) (C3 n) g f e k j t, fun e j t => (s 5000 2 - j).toNat, ⟨by omega, by omega, z, h⟩, fun e j t ⟨j0, j1, k2, h⟩ => ?_⟩
    obtain ⟨x5, xT, xV, xE, xg, xe⟩ := fr e k j t h
    unfold wp_J2_size
    rw [x5]
    refine ⟨by omega, by omega, fun z => ?_, fun z => ?_⟩
    · have : j = s 5000 2 := by omega
      subst this
      obtain ⟨F, A1, A3, A4, A5, A6, A8, A7⟩ := h
      refine ⟨⟨by omega, by omega, F, A1, A3, A4, A5, A6, A8, fun i i0 i1 a a0 a1 w => ?_⟩, by dsimp only; omega⟩
      rcases w with w | ⟨w, w2⟩
      · by_cases q : i = k
        · exact A7 i i0 i1 a a0 a1 (Or.inr ⟨q, a1⟩)
        · exact A7 i i0 i1 a a0 a1 (Or.inl (by omega))
      · omega
    · obtain ⟨q0, q1, q2⟩ := h.2.2.1 k k0 k2
      obtain ⟨r0, r1⟩ := hE j (t 4 k) j0 z q0 q1
      have st := step e k j t h k0 k2 j0 z
      refine ⟨by omega, by omega, j0, z, by omega, ?_⟩
      refine ok_X1_sounds xT xV q0 q1 j0 (by rw [x5]; exact z) ?_
      rw [xE, xg]
      have hrg : Rg (t ks (Eds s n j (t 4 k))) := by
        have a1 := h.2.1 (Eds s n j (t 4 k)) r0 r1
        have a2 := h0 (Eds s n j (t 4 k)) r0 r1
        have gb : g ≤ 2147483647 := by omega
        rcases a2 with a2 | a2
        · rcases a1.2 a2 with w | w <;> omega
        · have := a1.1 (by omega); omega
      refine ⟨r0, by omega, hrg, ?_⟩
      unfold JN2
      refine ⟨fun w => ⟨⟨by omega, by omega, k2, st.1 w⟩, by dsimp only; omega⟩, fun w => ?_⟩
      obtain ⟨w1, w2⟩ := st.2 w
      exact ⟨r0, by omega, by omega, by omega, ⟨by omega, by omega, by omega, w2⟩, by dsimp only; omega⟩
