/-! PLAIN LAWS, 7: x's sorts: join -/
def SX (kc ks kl kz : Nat) (t : Sg) (E : Int → Int → Int) (l m : Int) : Prop :=
  SortOk E l m (t ks) (t kc 2) ∧ 0 ≤ t kc 2 ∧ t kc 2 ≤ m ∧
  ∀ j : Int, 0 ≤ j → j < t kc 2 → 0 ≤ t kl j ∧ t kl j < m ∧ t ks (t kl j) = j ∧ (∀ c : Int, 0 ≤ c → c < m → t ks c = j → t kl j ≤ c) ∧ t kz j = cnt (t ks) m j
/-- places that join may change: the sorts of the one Chords object, the queue -/
def JoinK (kc ks kl kz : Nat) (s t : Sg) : Prop := ∀ (k : Nat) (j : Int), k ≠ ks → k ≠ kl → k ≠ kz → k ≠ 4 → (k ≠ kc ∨ j ≠ 2) → t k j = s k j
theorem JoinK.TB {kc kr ks kl kz : Nat} {s t : Sg} {n : Int} (ci : CI kc kr ks kl kz) (h : JoinK kc ks kl kz s t) (T : TBx kc kr s n) : TBx kc kr t n := by
  unfold CI at ci
  refine ⟨T.1, T.2.1, ?_, ?_, fun k k0 k1 => ?_⟩
  · rw [h kc 0 (by omega) (by omega) (by omega) (by omega) (by omega)]; exact T.2.2.1
  · rw [h kc 1 (by omega) (by omega) (by omega) (by omega) (by omega)]; exact T.2.2.2.1
  · have hb := C3_b (show 0 ≤ n by have := T.1; omega) T.2.1
    rw [h _ 0 (by omega) (by omega) (by omega) (by omega) (by omega), h _ 1 (by omega) (by omega) (by omega) (by omega) (by omega), h _ 2 (by omega) (by omega) (by omega) (by omega) (by omega)]
    exact T.2.2.2.2 k k0 k1
theorem JoinK.LV {kc kr ks kl kz : Nat} {s t : Sg} (ci : CI kc kr ks kl kz) (h : JoinK kc ks kl kz s t) : t 5000 = s 5000 ∧ t 5001 = s 5001 ∧ t 5002 = s 5002 ∧ t 5003 = s 5003 := by
  unfold CI at ci
  refine ⟨funext fun j => ?_, funext fun j => ?_, funext fun j => ?_, funext fun j => ?_⟩ <;> exact h _ j (by omega) (by omega) (by omega) (by omega) (by omega)
/-- what joining leaves when the chords below k are done -/
def JP (kc ks kl kz : Nat) (s : Sg) (E : Int → Int → Int) (l m k : Int) (t : Sg) : Prop :=
  JoinK kc ks kl kz s t ∧ 0 ≤ t kc 2 ∧ t kc 2 ≤ k ∧
  (∀ c : Int, 0 ≤ c → c < m → t ks c = -1 ∨ (0 ≤ t ks c ∧ t ks c < t kc 2)) ∧
  (∀ c : Int, 0 ≤ c → c < k → t ks c ≠ -1) ∧
  (∀ c : Int, 0 ≤ c → c < m → t ks c ≠ -1 → ∀ i : Int, 0 ≤ i → i < l → t ks (E i c) = t ks c) ∧
  (∀ h : Int → Int, Inv E l m h → ∀ c d : Int, 0 ≤ c → c < m → 0 ≤ d → d < m → t ks c ≠ -1 → t ks c = t ks d → h c = h d) ∧
  (∀ j : Int, 0 ≤ j → j < t kc 2 → 0 ≤ t kl j ∧ t kl j < k ∧ t ks (t kl j) = j ∧ (∀ c : Int, 0 ≤ c → c < m → t ks c = j → t kl j ≤ c) ∧ t kz j = cnt (t ks) m j) ∧
  (∀ i j : Int, 0 ≤ i → i < j → j < t kc 2 → t kl i < t kl j)
theorem JP_end {kc ks kl kz : Nat} {s : Sg} {E : Int → Int → Int} {l m : Int} {t : Sg} (h : JP kc ks kl kz s E l m m t) : SX kc ks kl kz t E l m := by
  obtain ⟨F, g0, g1, J1, J2, J3, J4, J5, J6⟩ := h
  have hF : ∀ c : Int, 0 ≤ c → c < m → First (t ks) c → c = t kl (t ks c) ∧ 0 ≤ t ks c ∧ t ks c < t kc 2 := fun c c0 c1 f => by
    have h1 := J2 c c0 c1
    have h2 := J1 c c0 c1
    obtain ⟨a, b, d, e, -⟩ := J5 (t ks c) (by omega) (by omega)
    have h3 := e c c0 c1 rfl
    refine ⟨?_, by omega, by omega⟩
    rcases Int.lt_or_eq_of_le h3 with q | q
    · exact absurd d (f _ a q)
    · exact q.symm
  refine ⟨⟨fun c c0 c1 => ?_, fun j j0 j1 => ?_, fun i i0 i1 c c0 c1 => J3 c c0 c1 (J2 c c0 c1) i i0 i1, fun f hf c d c0 c1 d0 d1 q => J4 f hf c d c0 c1 d0 d1 (J2 c c0 c1) q, fun c d c0 cd d1 f1 f2 => ?_⟩, g0, g1, J5⟩
  · have h1 := J2 c c0 c1
    have h2 := J1 c c0 c1
    omega
  · obtain ⟨a, b, d, -⟩ := J5 j j0 j1
    exact ⟨t kl j, a, b, d⟩
  · obtain ⟨a1, a2, a3⟩ := hF c c0 (by omega) f1
    obtain ⟨b1, b2, b3⟩ := hF d (by omega) d1 f2
    rcases Int.lt_trichotomy (t ks c) (t ks d) with q | q | q
    · exact q
    · rw [q] at a1; omega
    · have := J6 _ _ b2 q a3
      omega
theorem ok_X0_join {kc kr ks kl kz : Nat} {n : Int} {s : Sg} {Q : Sg → Prop} (ci : CI kc kr ks kl kz) (T : TBx kc kr s n) (V : LVs s)
    (hQ : ∀ t : Sg, SX kc ks kl kz t (Eds s n) (s 5000 2) (C3 n) → JoinK kc ks kl kz s t → Q t) : wp_X0_join kc kr ks kl kz s Q := by
  have ci' := ci
  unfold CI at ci
  have n0 := T.1
  have n1 := T.2.1
  have hb := C3_b (show 0 ≤ n by omega) n1
  have hE : ∀ i c : Int, 0 ≤ i → i < s 5000 2 → 0 ≤ c → c < C3 n → 0 ≤ Eds s n i c ∧ Eds s n i c < C3 n := fun i c i0 i1 c0 c1 => Ed_in V i0 i1 n0 n1 c0 c1
  have fr : ∀ t : Sg, JoinK kc ks kl kz s t → TBx kc kr t n ∧ LVs t ∧ Eds t n = Eds s n ∧ t 5000 2 = s 5000 2 ∧ t kc 1 = C3 n := fun t h => by
    obtain ⟨e1, e2, e3, e4⟩ := h.LV ci'
    have hT := h.TB ci' T
    refine ⟨hT, ?_, ?_, by rw [e1], hT.2.2.2.1⟩
    · unfold LVs; rw [e1, e2, e3, e4]; exact V
    · unfold Eds; rw [e2, e3, e4]
  -- one more chord
  have step : ∀ (k : Int) (t : Sg), JP kc ks kl kz s (Eds s n) (s 5000 2) (C3 n) k t → 0 ≤ k → k < C3 n → t ks k = -1 → ∀ (e : Int) (u : Sg), SP ks (up t kl (t kc 2) k) (Eds s n) (s 5000 2) (C3 n) (t kc 2) k e e 0 u →
      JP kc ks kl kz s (Eds s n) (s 5000 2) (C3 n) (k + 1) (up (up u kz (t kc 2) e) kc 2 (t kc 2 + 1)) := by
    intro k t ⟨F, g0, g1, J1, J2, J3, J4, J5, J6⟩ k0 k1 hk e u ⟨F2, A1, A3, A4, A5, A6, A8, A7⟩
    generalize hg : t kc 2 = g at *
    have hL0 : (up t kl g k) ks = t ks := up_o _ _ _ _ (by omega)
    rw [hL0] at A1
    have hFu : ∀ q : Nat, q ≠ ks → q ≠ 4 → u q = (up t kl g k) q := fun q h1 h2 => funext fun w => F2 q w h1 h2
    have hLf : (up (up u kz g e) kc 2 (g + 1)) ks = u ks := by rw [up_o _ _ _ _ (show ks ≠ kc by omega), up_o _ _ _ _ (show ks ≠ kz by omega)]
    have hkl : ∀ j : Int, (up (up u kz g e) kc 2 (g + 1)) kl j = if j = g then k else t kl j := fun j => by
      rw [up_o _ _ _ _ (show kl ≠ kc by omega), up_o _ _ _ _ (show kl ≠ kz by omega), hFu kl (by omega) (by omega), up_at]
      by_cases q : j = g
      · rw [if_pos ⟨rfl, q⟩, if_pos q]
      · rw [if_neg (fun z => q z.2), if_neg q]
    have hkz : ∀ j : Int, (up (up u kz g e) kc 2 (g + 1)) kz j = if j = g then e else t kz j := fun j => by
      rw [up_o _ _ _ _ (show kz ≠ kc by omega), up_at]
      by_cases q : j = g
      · rw [if_pos ⟨rfl, q⟩, if_pos q]
      · rw [if_neg (fun z => q z.2), if_neg q, hFu kz (by omega) (by omega), up_o _ _ _ _ (show kz ≠ kl by omega)]
    have hkc : (up (up u kz g e) kc 2 (g + 1)) kc 2 = g + 1 := up_s _ _ _ _
    -- an old label
    have hold : ∀ c : Int, 0 ≤ c → c < C3 n → u ks c ≠ -1 → u ks c ≠ g → t ks c = u ks c ∧ t ks c ≠ -1 := fun c c0 c1 h1 h2 => by
      by_cases q : t ks c = -1
      · rcases (A1 c c0 c1).2 q with w | w
        · exact absurd w h1
        · exact absurd w h2
      · exact ⟨((A1 c c0 c1).1 q).symm, q⟩
    have hclosed : ∀ c : Int, 0 ≤ c → c < C3 n → u ks c = g → ∀ i : Int, 0 ≤ i → i < s 5000 2 → u ks (Eds s n i c) = g := fun c c0 c1 h i i0 i1 => by
      obtain ⟨a, a0, a1, a2⟩ := A4 c c0 c1 h
      rw [← a2]
      exact A7 a a0 a1 i i0 i1 (Or.inl a1)
    refine ⟨fun q j h1 h2 h3 h4 h5 => ?_, by rw [hkc]; omega, by rw [hkc]; omega, fun c c0 c1 => ?_, fun c c0 c1 => ?_, fun c c0 c1 h i i0 i1 => ?_, fun h hh c d c0 c1 d0 d1 h1 h2 => ?_, fun j j0 j1 => ?_, fun i j i0 ij j1 => ?_⟩
    · have : (up (up u kz g e) kc 2 (g + 1)) q j = u q j := by rw [up_at, if_neg (by omega), up_o _ _ _ _ h3]
      rw [this, hFu q h1 h4, up_o _ _ _ _ h2]
      exact F q j h1 h2 h3 h4 h5
    · rw [hLf, hkc]
      by_cases q : u ks c = -1
      · exact Or.inl q
      · by_cases q2 : u ks c = g
        · exact Or.inr (by omega)
        · have := hold c c0 c1 q q2
          have := J1 c c0 c1
          omega
    · rw [hLf]
      by_cases q : c = k
      · rw [q, A8]; omega
      · have h1 := J2 c c0 (by omega)
        rw [(A1 c c0 (by omega)).1 h1]
        exact h1
    · rw [hLf] at h ⊢
      by_cases q : u ks c = g
      · rw [hclosed c c0 c1 q i i0 i1, q]
      · obtain ⟨e1, e2⟩ := hold c c0 c1 h q
        have h3 := J3 c c0 c1 e2 i i0 i1
        have he := hE i c i0 i1 c0 c1
        rw [(A1 _ he.1 he.2).1 (by rw [h3]; exact e2), h3, e1]
    · rw [hLf] at h1 h2
      by_cases q : u ks c = g
      · rw [A5 h hh c c0 c1 q, A5 h hh d d0 d1 (by rw [← h2]; exact q)]
      · obtain ⟨e1, e2⟩ := hold c c0 c1 h1 q
        obtain ⟨e3, e4⟩ := hold d d0 d1 (by rw [← h2]; exact h1) (by rw [← h2]; exact q)
        exact J4 h hh c d c0 c1 d0 d1 e2 (by rw [e1, e3, h2])
    · rw [hkc] at j1
      rw [hLf, hkl, hkz]
      by_cases q : j = g
      · rw [if_pos q, if_pos q, q]
        refine ⟨k0, by omega, A8, fun c c0 c1 h => ?_, A6⟩
        rcases Int.lt_or_le c k with w | w
        · have h1 := J2 c c0 w
          have h2 := (A1 c c0 c1).1 h1
          have h3 := J1 c c0 c1
          omega
        · exact w
      · rw [if_neg q, if_neg q]
        obtain ⟨a, b, c, d, f⟩ := J5 j j0 (by omega)
        have hiff : ∀ x : Int, 0 ≤ x → x < C3 n → (u ks x = j ↔ t ks x = j) := fun x x0 x1 => by
          constructor
          · intro h
            rw [(hold x x0 x1 (by omega) (by omega)).1]; exact h
          · intro h
            rw [(A1 x x0 x1).1 (by omega)]; exact h
        refine ⟨a, by omega, (hiff _ a (by omega)).mpr c, fun x x0 x1 h => d x x0 x1 ((hiff x x0 x1).mp h), ?_⟩
        rw [f]
        exact sm_ci (fun x x0 x1 => b2i_c (hiff x x0 x1).symm)
    · rw [hkc] at j1
      rw [hkl, hkl]
      by_cases q : j = g
      · rw [if_pos q, if_neg (by omega)]
        exact (J5 i i0 (by omega)).2.1
      · rw [if_neg q, if_neg (by omega)]
        exact J6 i j i0 ij (by omega)
  unfold wp_X0_join
  refine ⟨fun k t => 0 ≤ k ∧ k ≤ C3 n ∧ t kc 2 = 0 ∧ JoinK kc ks kl kz s t ∧ ∀ c : Int, 0 ≤ c → c < k → t ks c = -1, fun k t => (C3 n - k).toNat, ⟨by omega, by omega, up_s _ _ _ _, fun q j h1 h2 h3 h4 h5 => by rw [up_at, if_neg (by omega)], fun c c0 c1 => by omega⟩, fun k t ⟨k0, k1, hz, F, hm⟩ => ?_⟩
  obtain ⟨xT, xV, xE, x5, xc⟩ := fr t F
  rw [xc]
  refine ⟨by omega, by omega, fun h => ?_, fun h => ?_⟩
  · have ek : k = C3 n := by omega
    rw [ek] at hm
    refine ⟨fun k t => 0 ≤ k ∧ k ≤ C3 n ∧ JP kc ks kl kz s (Eds s n) (s 5000 2) (C3 n) k t, fun k t => (C3 n - k).toNat, ⟨by omega, by omega, F, by omega, by omega, fun c c0 c1 => Or.inl (hm c c0 c1), fun c c0 c1 => by omega, fun c c0 c1 h => absurd (hm c c0 c1) h, fun h hh c d c0 c1 d0 d1 h1 => absurd (hm c c0 c1) h1, fun j j0 j1 => by omega, fun i j i0 ij j1 => by omega⟩, fun k t ⟨k0, k1, hJ⟩ => ?_⟩
    obtain ⟨xT, xV, xE, x5, xc⟩ := fr t hJ.1
    rw [xc]
    refine ⟨by omega, by omega, fun h => ?_, fun h => ?_⟩
    · have ek : k = C3 n := by omega
      rw [ek] at hJ
      exact hQ t (JP_end hJ) hJ.1
    · have hrg := hJ.2.2.2.1 k k0 h
      have hg0 := hJ.2.1
      have hg1 := hJ.2.2.1
      refine ⟨k0, by omega, by omega, ?_⟩
      unfold JN1
      refine ⟨fun w => ⟨⟨by omega, by omega, ?_⟩, by dsimp only; omega⟩, fun w => ⟨hg0, by omega, ?_⟩⟩
      · obtain ⟨F, g0, g1, J1, J2, J3, J4, J5, J6⟩ := hJ
        exact ⟨F, g0, by omega, J1, fun c c0 c1 => by
          by_cases q : c = k
          · rw [q]; exact w
          · exact J2 c c0 (by omega), J3, J4, fun j j0 j1 => by
          obtain ⟨a, b, c, d⟩ := J5 j j0 j1
          exact ⟨a, by omega, c, d⟩, J6⟩
      · have ekc : (up t kl (t kc 2) k) kc = t kc := up_o _ _ _ _ (by omega)
        have eks : (up t kl (t kc 2) k) ks = t ks := up_o _ _ _ _ (by omega)
        have F : JoinK kc ks kl kz s (up t kl (t kc 2) k) := fun q j h1 h2 h3 h4 h5 => by
          rw [up_o _ _ _ _ h2]; exact hJ.1 q j h1 h2 h3 h4 h5
        obtain ⟨yT, yV, yE, y5, yc⟩ := fr _ F
        refine ok_X0_spread ci' yT yV k0 h (by rw [eks]; exact w) (by rw [ekc]) hg0 (by omega) (fun c c0 c1 => by rw [eks]; exact hJ.2.2.2.1 c c0 c1) (fun c c0 c1 hc i i0 i1 => ?_) (fun e u hS => ?_)
        · rw [eks] at hc ⊢
          rw [yE]
          rw [y5] at i1
          exact hJ.2.2.2.2.2.1 c c0 c1 hc i i0 i1
        · rw [yE, y5] at hS
          have hu : u kc 2 = t kc 2 := by rw [hS.1 kc 2 (by omega) (by omega), ekc]
          rw [ekc]
          refine ⟨hg0, by omega, ⟨⟨by omega, by omega, ?_⟩, by dsimp only; omega⟩⟩
          rw [up_o _ _ _ _ (show kc ≠ kz by omega), hu]
          exact step k t hJ k0 h w e u hS
  · refine ⟨k0, by omega, ⟨⟨by omega, by omega, by rw [up_o _ _ _ _ (show kc ≠ ks by omega)]; exact hz, fun q j h1 h2 h3 h4 h5 => by rw [up_o _ _ _ _ h1]; exact F q j h1 h2 h3 h4 h5, fun c c0 c1 => ?_⟩, by dsimp only; omega⟩⟩
    rw [up_at]
    by_cases q : c = k
    · rw [if_pos ⟨rfl, q⟩]
    · rw [if_neg (fun z => q z.2)]; exact hm c c0 (by omega)
