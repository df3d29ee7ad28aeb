/-! THE WORLDS of both systems: cell k stands at ad k and holds what its numbers (σ k) say; x: 1300 cells and the likenesses; the reference: 18 cells -/
def wl (N : Nat) (ad : Nat → Nat) (mk : Nat → (Int → Int) → va_E) (σ : Sg) : va_W := (List.range N).map (fun k => (ad k, mk k (σ k)))
theorem wl_len (N : Nat) (ad : Nat → Nat) (mk : Nat → (Int → Int) → va_E) (σ : Sg) : (wl N ad mk σ).length = N := by simp [wl]
theorem wl_at {N : Nat} (ad : Nat → Nat) (mk : Nat → (Int → Int) → va_E) (σ : Sg) {k : Nat} (h : k < N) : (wl N ad mk σ)[k]? = some (ad k, mk k (σ k)) := by
  unfold wl
  rw [List.getElem?_map, List.getElem?_range h]
  rfl
theorem wl_set {N : Nat} (ad : Nat → Nat) (mk : Nat → (Int → Int) → va_E) (σ : Sg) {k : Nat} (h : k < N) (v : Int → Int) : (wl N ad mk σ).set k (ad k, mk k v) = wl N ad mk (va_up σ k v) := by
  apply List.ext_getElem?
  intro j
  rw [List.getElem?_set]
  by_cases hj : k = j
  · subst hj
    rw [if_pos rfl, if_pos (by rw [wl_len]; exact h), wl_at ad mk _ h, va_up_self]
  · rw [if_neg hj]
    by_cases h2 : j < N
    · rw [wl_at ad mk _ h2, wl_at ad mk _ h2, va_up_ne _ _ (fun q => hj q.symm)]
    · rw [List.getElem?_eq_none (by rw [wl_len]; omega), List.getElem?_eq_none (by rw [wl_len]; omega)]
theorem wl_ok (N : Nat) (ad : Nat → Nat) (mk : Nat → (Int → Int) → va_E) (ex : Sg → va_W) (hex : ∀ (σ : Sg) (k : Nat) (v : Int → Int), k < N → ex (va_up σ k v) = ex σ) : WFok N ad mk (fun σ => wl N ad mk σ ++ ex σ) := by
  refine ⟨fun σ k hk => ?_, fun σ k v hk => ?_⟩
  · rw [List.getElem?_append_left (by rw [wl_len]; exact hk)]
    exact wl_at ad mk σ hk
  · show (wl N ad mk σ ++ ex σ).set k _ = wl N ad mk (va_up σ k v) ++ ex (va_up σ k v)
    rw [List.set_append_left _ _ (by rw [wl_len]; exact hk), wl_set ad mk σ hk, hex σ k v hk]
def xf0 (ad : Nat → Nat) (v : Int → Int) : List Value := [.ref (ad 5000), .int (iI (v 1)), .ref (ad 3), .int (iI (v 3)), .ref (ad 1), .ref (ad 2), .ref (ad 4), .int (iI (v 7)), .ref (ad 5), .int (iI (v 9)), .ref (ad 6), .ref (ad 7), .ref (ad 8), .ref (ad 9), .int (iI (v 14)), .ref (ad 10), .int (iI (v 16)), .ref (ad 11), .ref (ad 12), .int (iI (v 19)), .ref (ad 13), .int (iI (v 21)), .int (iI (v 22)), .int (iI (v 23)), .int (iI (v 24)), .int (iI (v 25)), .ref (ad 14), .ref (ad 15), .ref (ad 16), .ref (ad 17)]
def xf1 (ad : Nat → Nat) (v : Int → Int) : List Value := [.int (iI (v 0)), .int (iI (v 1)), .int (iI (v 2)), .ref (ad 18), .ref (ad 19), .ref (ad 20), .ref (ad 21)]
def xf2 (ad : Nat → Nat) (v : Int → Int) : List Value := [.int (iI (v 0)), .int (iI (v 1)), .int (iI (v 2)), .ref (ad 22), .ref (ad 23), .ref (ad 24), .ref (ad 25)]
def xmk0 (dA : Nat → ClassId) (ad : Nat → Nat) (k : Nat) (v : Int → Int) : va_E := match k with
  | 0 => .inr (0, xf0 ad v)
  | 1 => .inr (1, xf1 ad v)
  | 2 => .inr (1, xf2 ad v)
  | 3 => .inl (dA 1, 20, .inl (fun (j : Nat) => iI (v (j : Int))))
  | 4 => .inl (dA 0, 120, .inl (fun (j : Nat) => iI (v (j : Int))))
  | 5 => .inl (dA 0, 20, .inl (fun (j : Nat) => iI (v (j : Int))))
  | 6 => .inl (dA 0, 121, .inl (fun (j : Nat) => iI (v (j : Int))))
  | 7 => .inl (dA 3, 5, .inr (.inr (.inr (.inr (fun j => some (ad (26 + j)))))))
  | 8 => .inl (dA 0, 5, .inl (fun (j : Nat) => iI (v (j : Int))))
  | 9 => .inl (dA 0, 5, .inl (fun (j : Nat) => iI (v (j : Int))))
  | 10 => .inl (dA 0, 18, .inl (fun (j : Nat) => iI (v (j : Int))))
  | 11 => .inl (dA 0, 5, .inl (fun (j : Nat) => iI (v (j : Int))))
  | 12 => .inl (dA 0, 12, .inl (fun (j : Nat) => iI (v (j : Int))))
  | 13 => .inl (dA 4, 1024, .inr (.inr (.inr (.inr (fun j => some (ad (276 + j)))))))
  | 14 => .inl (dA 0, 20, .inl (fun (j : Nat) => iI (v (j : Int))))
  | 15 => .inl (dA 3, 5, .inr (.inr (.inr (.inr (fun j => some (ad (31 + j)))))))
  | 16 => .inl (dA 0, 5, .inl (fun (j : Nat) => iI (v (j : Int))))
  | 17 => .inl (dA 0, 5, .inl (fun (j : Nat) => iI (v (j : Int))))
  | 18 => .inl (dA 3, 120, .inr (.inr (.inr (.inr (fun j => some (ad (36 + j)))))))
  | 19 => .inl (dA 0, 120, .inl (fun (j : Nat) => iI (v (j : Int))))
  | 20 => .inl (dA 0, 120, .inl (fun (j : Nat) => iI (v (j : Int))))
  | 21 => .inl (dA 0, 120, .inl (fun (j : Nat) => iI (v (j : Int))))
  | 22 => .inl (dA 3, 120, .inr (.inr (.inr (.inr (fun j => some (ad (156 + j)))))))
  | 23 => .inl (dA 0, 120, .inl (fun (j : Nat) => iI (v (j : Int))))
  | 24 => .inl (dA 0, 120, .inl (fun (j : Nat) => iI (v (j : Int))))
  | _ => .inl (dA 0, 120, .inl (fun (j : Nat) => iI (v (j : Int))))
def xmk (dA : Nat → ClassId) (ad : Nat → Nat) (k : Nat) (v : Int → Int) : va_E := if k < 26 then xmk0 dA ad k v else if k < 36 then .inl (dA 0, 6, .inl (fun (j : Nat) => iI (v (j : Int)))) else if k < 276 then .inl (dA 0, 3, .inl (fun (j : Nat) => iI (v (j : Int)))) else .inl (dA 2, 84, .inl (fun (j : Nat) => iI (v (j : Int))))
/-- a likeness by its kind: 1 a shift, 2 a turn, 3 an exchange -/
def xlk (kd a b : Int) : va_E := if kd = 1 then .inr (2, [.int (iI a)]) else if kd = 2 then .inr (4, [.int (iI (-1)), .int (iI (-1))]) else .inr (3, [.int (iI a), .int (iI b)])
/-- the list of the likenesses: σ 5000 2 of them; of the kinds σ 5001, with the numbers σ 5002, σ 5003 -/
def xex (dA : Nat → ClassId) (ad : Nat → Nat) (σ : Sg) : va_W := (ad 5000, .inr (7, [.int (iI (σ 5000 0)), .ref (ad 5001), .int (iI (σ 5000 2))])) :: (if σ 5000 2 = 0 then [] else (ad 5001, .inl (dA 5, 10, .inr (.inr (.inr (.inr (fun (j : Nat) => if (j : Int) < σ 5000 2 then some (ad (5002 + j)) else none)))))) :: (List.range (σ 5000 2).toNat).map (fun j => (ad (5002 + j), xlk (σ 5001 (j : Int)) (σ 5002 (j : Int)) (σ 5003 (j : Int)))))
def xwf (dA : Nat → ClassId) (ad : Nat → Nat) : Sg → va_W := fun σ => wl 1300 ad (xmk dA ad) σ ++ xex dA ad σ
theorem xO (dA : Nat → ClassId) (ad : Nat → Nat) : WFok 1300 ad (xmk dA ad) (xwf dA ad) := wl_ok 1300 ad (xmk dA ad) (xex dA ad) (fun σ k v hk => by
  unfold xex
  rw [va_up_ne σ v (show 5000 ≠ k by omega), va_up_ne σ v (show 5001 ≠ k by omega), va_up_ne σ v (show 5002 ≠ k by omega), va_up_ne σ v (show 5003 ≠ k by omega)])
theorem xh_0 (dA : Nat → ClassId) (ad : Nat → Nat) (σ : Sg) : (xwf dA ad σ)[0]? = some (ad 0, .inr (0, xf0 ad (σ 0))) := (xO dA ad).1 σ 0 (by decide)
theorem xh_1 (dA : Nat → ClassId) (ad : Nat → Nat) (σ : Sg) : (xwf dA ad σ)[1]? = some (ad 1, .inr (1, xf1 ad (σ 1))) := (xO dA ad).1 σ 1 (by decide)
theorem xh_2 (dA : Nat → ClassId) (ad : Nat → Nat) (σ : Sg) : (xwf dA ad σ)[2]? = some (ad 2, .inr (1, xf2 ad (σ 2))) := (xO dA ad).1 σ 2 (by decide)
theorem xh_L (dA : Nat → ClassId) (ad : Nat → Nat) (σ : Sg) : (xwf dA ad σ)[1300]? = some (ad 5000, .inr (7, [.int (iI (σ 5000 0)), .ref (ad 5001), .int (iI (σ 5000 2))])) := by
  show (wl 1300 ad (xmk dA ad) σ ++ xex dA ad σ)[1300]? = _
  rw [List.getElem?_append_right (by rw [wl_len]; exact Nat.le_refl _), wl_len]
  rfl
theorem xa_3 (dA : Nat → ClassId) (ad : Nat → Nat) : ∀ v, xmk dA ad 3 v = .inl (dA 1, 20, .inl (fun (j : Nat) => iI (v (j : Int)))) := fun v => rfl
theorem xa_4 (dA : Nat → ClassId) (ad : Nat → Nat) : ∀ v, xmk dA ad 4 v = .inl (dA 0, 120, .inl (fun (j : Nat) => iI (v (j : Int)))) := fun v => rfl
theorem xa_5 (dA : Nat → ClassId) (ad : Nat → Nat) : ∀ v, xmk dA ad 5 v = .inl (dA 0, 20, .inl (fun (j : Nat) => iI (v (j : Int)))) := fun v => rfl
theorem xa_6 (dA : Nat → ClassId) (ad : Nat → Nat) : ∀ v, xmk dA ad 6 v = .inl (dA 0, 121, .inl (fun (j : Nat) => iI (v (j : Int)))) := fun v => rfl
theorem xa_7 (dA : Nat → ClassId) (ad : Nat → Nat) : ∀ v, xmk dA ad 7 v = .inl (dA 3, 5, .inr (.inr (.inr (.inr (fun j => some (ad (26 + j))))))) := fun v => rfl
theorem xa_8 (dA : Nat → ClassId) (ad : Nat → Nat) : ∀ v, xmk dA ad 8 v = .inl (dA 0, 5, .inl (fun (j : Nat) => iI (v (j : Int)))) := fun v => rfl
theorem xa_9 (dA : Nat → ClassId) (ad : Nat → Nat) : ∀ v, xmk dA ad 9 v = .inl (dA 0, 5, .inl (fun (j : Nat) => iI (v (j : Int)))) := fun v => rfl
theorem xa_10 (dA : Nat → ClassId) (ad : Nat → Nat) : ∀ v, xmk dA ad 10 v = .inl (dA 0, 18, .inl (fun (j : Nat) => iI (v (j : Int)))) := fun v => rfl
theorem xa_11 (dA : Nat → ClassId) (ad : Nat → Nat) : ∀ v, xmk dA ad 11 v = .inl (dA 0, 5, .inl (fun (j : Nat) => iI (v (j : Int)))) := fun v => rfl
theorem xa_12 (dA : Nat → ClassId) (ad : Nat → Nat) : ∀ v, xmk dA ad 12 v = .inl (dA 0, 12, .inl (fun (j : Nat) => iI (v (j : Int)))) := fun v => rfl
theorem xa_13 (dA : Nat → ClassId) (ad : Nat → Nat) : ∀ v, xmk dA ad 13 v = .inl (dA 4, 1024, .inr (.inr (.inr (.inr (fun j => some (ad (276 + j))))))) := fun v => rfl
theorem xa_14 (dA : Nat → ClassId) (ad : Nat → Nat) : ∀ v, xmk dA ad 14 v = .inl (dA 0, 20, .inl (fun (j : Nat) => iI (v (j : Int)))) := fun v => rfl
theorem xa_15 (dA : Nat → ClassId) (ad : Nat → Nat) : ∀ v, xmk dA ad 15 v = .inl (dA 3, 5, .inr (.inr (.inr (.inr (fun j => some (ad (31 + j))))))) := fun v => rfl
theorem xa_16 (dA : Nat → ClassId) (ad : Nat → Nat) : ∀ v, xmk dA ad 16 v = .inl (dA 0, 5, .inl (fun (j : Nat) => iI (v (j : Int)))) := fun v => rfl
theorem xa_17 (dA : Nat → ClassId) (ad : Nat → Nat) : ∀ v, xmk dA ad 17 v = .inl (dA 0, 5, .inl (fun (j : Nat) => iI (v (j : Int)))) := fun v => rfl
theorem xa_18 (dA : Nat → ClassId) (ad : Nat → Nat) : ∀ v, xmk dA ad 18 v = .inl (dA 3, 120, .inr (.inr (.inr (.inr (fun j => some (ad (36 + j))))))) := fun v => rfl
theorem xa_19 (dA : Nat → ClassId) (ad : Nat → Nat) : ∀ v, xmk dA ad 19 v = .inl (dA 0, 120, .inl (fun (j : Nat) => iI (v (j : Int)))) := fun v => rfl
theorem xa_20 (dA : Nat → ClassId) (ad : Nat → Nat) : ∀ v, xmk dA ad 20 v = .inl (dA 0, 120, .inl (fun (j : Nat) => iI (v (j : Int)))) := fun v => rfl
theorem xa_21 (dA : Nat → ClassId) (ad : Nat → Nat) : ∀ v, xmk dA ad 21 v = .inl (dA 0, 120, .inl (fun (j : Nat) => iI (v (j : Int)))) := fun v => rfl
theorem xa_22 (dA : Nat → ClassId) (ad : Nat → Nat) : ∀ v, xmk dA ad 22 v = .inl (dA 3, 120, .inr (.inr (.inr (.inr (fun j => some (ad (156 + j))))))) := fun v => rfl
theorem xa_23 (dA : Nat → ClassId) (ad : Nat → Nat) : ∀ v, xmk dA ad 23 v = .inl (dA 0, 120, .inl (fun (j : Nat) => iI (v (j : Int)))) := fun v => rfl
theorem xa_24 (dA : Nat → ClassId) (ad : Nat → Nat) : ∀ v, xmk dA ad 24 v = .inl (dA 0, 120, .inl (fun (j : Nat) => iI (v (j : Int)))) := fun v => rfl
theorem xa_25 (dA : Nat → ClassId) (ad : Nat → Nat) : ∀ v, xmk dA ad 25 v = .inl (dA 0, 120, .inl (fun (j : Nat) => iI (v (j : Int)))) := fun v => rfl
theorem xr_6 (dA : Nat → ClassId) (ad : Nat → Nat) {k : Nat} (h1 : 26 ≤ k) (h2 : k < 36) : ∀ v, xmk dA ad k v = .inl (dA 0, 6, .inl (fun (j : Nat) => iI (v (j : Int)))) := fun v => by
  unfold xmk; rw [if_neg (by omega), if_pos h2]
theorem xr_3 (dA : Nat → ClassId) (ad : Nat → Nat) {k : Nat} (h1 : 36 ≤ k) (h2 : k < 276) : ∀ v, xmk dA ad k v = .inl (dA 0, 3, .inl (fun (j : Nat) => iI (v (j : Int)))) := fun v => by
  unfold xmk; rw [if_neg (by omega), if_neg (by omega), if_pos h2]
theorem xr_84 (dA : Nat → ClassId) (ad : Nat → Nat) {k : Nat} (h1 : 276 ≤ k) : ∀ v, xmk dA ad k v = .inl (dA 2, 84, .inl (fun (j : Nat) => iI (v (j : Int)))) := fun v => by
  unfold xmk; rw [if_neg (by omega), if_neg (by omega), if_neg (by omega)]
def mf0 (ad : Nat → Nat) (v : Int → Int) : List Value := [.ref (ad 1), .int (iI (v 1)), .int (iI (v 2)), .ref (ad 2), .int (iI (v 4)), .int (iI (v 5)), .ref (ad 3), .int (iI (v 7)), .int (iI (v 8)), .ref (ad 4), .int (iI (v 10)), .ref (ad 5), .ref (ad 6), .int (iI (v 13)), .ref (ad 7), .int (iI (v 15)), .ref (ad 8), .int (iI (v 17)), .ref (ad 9), .ref (ad 10), .ref (ad 11), .int (iI (v 21)), .int (iI (v 22)), .ref (ad 12), .int (iI (v 24)), .ref (ad 13), .ref (ad 14), .ref (ad 15), .int (iI (v 28)), .int (iI (v 29)), .int (iI (v 30)), .ref (ad 16), .ref (ad 17), .long (lI (v 33))]
def mmk (dA : Nat → ClassId) (ad : Nat → Nat) (k : Nat) (v : Int → Int) : va_E := match k with
  | 0 => .inr (8, mf0 ad v)
  | 1 => .inl (dA 0, 20, .inl (fun (j : Nat) => iI (v (j : Int))))
  | 2 => .inl (dA 0, 8, .inl (fun (j : Nat) => iI (v (j : Int))))
  | 3 => .inl (dA 0, 8, .inl (fun (j : Nat) => iI (v (j : Int))))
  | 4 => .inl (dA 0, 252, .inl (fun (j : Nat) => iI (v (j : Int))))
  | 5 => .inl (dA 0, 120, .inl (fun (j : Nat) => iI (v (j : Int))))
  | 6 => .inl (dA 0, 120, .inl (fun (j : Nat) => iI (v (j : Int))))
  | 7 => .inl (dA 0, 20, .inl (fun (j : Nat) => iI (v (j : Int))))
  | 8 => .inl (dA 0, 40, .inl (fun (j : Nat) => iI (v (j : Int))))
  | 9 => .inl (dA 6, 25, .inr (.inl (fun (j : Nat) => lI (v (j : Int)))))
  | 10 => .inl (dA 6, 25, .inr (.inl (fun (j : Nat) => lI (v (j : Int)))))
  | 11 => .inl (dA 0, 12, .inl (fun (j : Nat) => iI (v (j : Int))))
  | 12 => .inl (dA 0, 12, .inl (fun (j : Nat) => iI (v (j : Int))))
  | 13 => .inl (dA 0, 86016, .inl (fun (j : Nat) => iI (v (j : Int))))
  | 14 => .inl (dA 0, 120, .inl (fun (j : Nat) => iI (v (j : Int))))
  | 15 => .inl (dA 0, 120, .inl (fun (j : Nat) => iI (v (j : Int))))
  | 16 => .inl (dA 0, 20, .inl (fun (j : Nat) => iI (v (j : Int))))
  | _ => .inl (dA 0, 40, .inl (fun (j : Nat) => iI (v (j : Int))))
def mwf (dA : Nat → ClassId) (ad : Nat → Nat) : Sg → va_W := fun σ => wl 18 ad (mmk dA ad) σ ++ []
theorem mO (dA : Nat → ClassId) (ad : Nat → Nat) : WFok 18 ad (mmk dA ad) (mwf dA ad) := wl_ok 18 ad (mmk dA ad) (fun _ => []) (fun σ k v hk => rfl)
theorem mh_0 (dA : Nat → ClassId) (ad : Nat → Nat) (σ : Sg) : (mwf dA ad σ)[0]? = some (ad 0, .inr (8, mf0 ad (σ 0))) := (mO dA ad).1 σ 0 (by decide)
theorem ma_1 (dA : Nat → ClassId) (ad : Nat → Nat) : ∀ v, mmk dA ad 1 v = .inl (dA 0, 20, .inl (fun (j : Nat) => iI (v (j : Int)))) := fun v => rfl
theorem ma_2 (dA : Nat → ClassId) (ad : Nat → Nat) : ∀ v, mmk dA ad 2 v = .inl (dA 0, 8, .inl (fun (j : Nat) => iI (v (j : Int)))) := fun v => rfl
theorem ma_3 (dA : Nat → ClassId) (ad : Nat → Nat) : ∀ v, mmk dA ad 3 v = .inl (dA 0, 8, .inl (fun (j : Nat) => iI (v (j : Int)))) := fun v => rfl
theorem ma_4 (dA : Nat → ClassId) (ad : Nat → Nat) : ∀ v, mmk dA ad 4 v = .inl (dA 0, 252, .inl (fun (j : Nat) => iI (v (j : Int)))) := fun v => rfl
theorem ma_5 (dA : Nat → ClassId) (ad : Nat → Nat) : ∀ v, mmk dA ad 5 v = .inl (dA 0, 120, .inl (fun (j : Nat) => iI (v (j : Int)))) := fun v => rfl
theorem ma_6 (dA : Nat → ClassId) (ad : Nat → Nat) : ∀ v, mmk dA ad 6 v = .inl (dA 0, 120, .inl (fun (j : Nat) => iI (v (j : Int)))) := fun v => rfl
theorem ma_7 (dA : Nat → ClassId) (ad : Nat → Nat) : ∀ v, mmk dA ad 7 v = .inl (dA 0, 20, .inl (fun (j : Nat) => iI (v (j : Int)))) := fun v => rfl
theorem ma_8 (dA : Nat → ClassId) (ad : Nat → Nat) : ∀ v, mmk dA ad 8 v = .inl (dA 0, 40, .inl (fun (j : Nat) => iI (v (j : Int)))) := fun v => rfl
theorem ma_9 (dA : Nat → ClassId) (ad : Nat → Nat) : ∀ v, mmk dA ad 9 v = .inl (dA 6, 25, .inr (.inl (fun (j : Nat) => lI (v (j : Int))))) := fun v => rfl
theorem ma_10 (dA : Nat → ClassId) (ad : Nat → Nat) : ∀ v, mmk dA ad 10 v = .inl (dA 6, 25, .inr (.inl (fun (j : Nat) => lI (v (j : Int))))) := fun v => rfl
theorem ma_11 (dA : Nat → ClassId) (ad : Nat → Nat) : ∀ v, mmk dA ad 11 v = .inl (dA 0, 12, .inl (fun (j : Nat) => iI (v (j : Int)))) := fun v => rfl
theorem ma_12 (dA : Nat → ClassId) (ad : Nat → Nat) : ∀ v, mmk dA ad 12 v = .inl (dA 0, 12, .inl (fun (j : Nat) => iI (v (j : Int)))) := fun v => rfl
theorem ma_13 (dA : Nat → ClassId) (ad : Nat → Nat) : ∀ v, mmk dA ad 13 v = .inl (dA 0, 86016, .inl (fun (j : Nat) => iI (v (j : Int)))) := fun v => rfl
theorem ma_14 (dA : Nat → ClassId) (ad : Nat → Nat) : ∀ v, mmk dA ad 14 v = .inl (dA 0, 120, .inl (fun (j : Nat) => iI (v (j : Int)))) := fun v => rfl
theorem ma_15 (dA : Nat → ClassId) (ad : Nat → Nat) : ∀ v, mmk dA ad 15 v = .inl (dA 0, 120, .inl (fun (j : Nat) => iI (v (j : Int)))) := fun v => rfl
theorem ma_16 (dA : Nat → ClassId) (ad : Nat → Nat) : ∀ v, mmk dA ad 16 v = .inl (dA 0, 20, .inl (fun (j : Nat) => iI (v (j : Int)))) := fun v => rfl
theorem ma_17 (dA : Nat → ClassId) (ad : Nat → Nat) : ∀ v, mmk dA ad 17 v = .inl (dA 0, 40, .inl (fun (j : Nat) => iI (v (j : Int)))) := fun v => rfl
section GX
variable {l : Launch} {R : Room} {D : va_G} {dA : Nat → ClassId} {ad : Nat → Nat} {cc : ByteArray} {nL : Nat} {G : Gx} {σ : Sg} {pc : Nat} {lv : List (Nat × Value)} {st : List Value} {z : Int}
theorem xs_0_1 (v : Int → Int) : (xf0 ad v).set 1 (.int (iI z)) = xf0 ad (upI v 1 z) := by simp [xf0, upI]
theorem xs_0_3 (v : Int → Int) : (xf0 ad v).set 3 (.int (iI z)) = xf0 ad (upI v 3 z) := by simp [xf0, upI]
theorem xs_0_7 (v : Int → Int) : (xf0 ad v).set 7 (.int (iI z)) = xf0 ad (upI v 7 z) := by simp [xf0, upI]
theorem xs_0_9 (v : Int → Int) : (xf0 ad v).set 9 (.int (iI z)) = xf0 ad (upI v 9 z) := by simp [xf0, upI]
theorem xs_0_14 (v : Int → Int) : (xf0 ad v).set 14 (.int (iI z)) = xf0 ad (upI v 14 z) := by simp [xf0, upI]
theorem xs_0_16 (v : Int → Int) : (xf0 ad v).set 16 (.int (iI z)) = xf0 ad (upI v 16 z) := by simp [xf0, upI]
theorem xs_0_19 (v : Int → Int) : (xf0 ad v).set 19 (.int (iI z)) = xf0 ad (upI v 19 z) := by simp [xf0, upI]
theorem xs_0_21 (v : Int → Int) : (xf0 ad v).set 21 (.int (iI z)) = xf0 ad (upI v 21 z) := by simp [xf0, upI]
theorem xs_0_22 (v : Int → Int) : (xf0 ad v).set 22 (.int (iI z)) = xf0 ad (upI v 22 z) := by simp [xf0, upI]
theorem xs_0_23 (v : Int → Int) : (xf0 ad v).set 23 (.int (iI z)) = xf0 ad (upI v 23 z) := by simp [xf0, upI]
theorem xs_0_24 (v : Int → Int) : (xf0 ad v).set 24 (.int (iI z)) = xf0 ad (upI v 24 z) := by simp [xf0, upI]
theorem xs_0_25 (v : Int → Int) : (xf0 ad v).set 25 (.int (iI z)) = xf0 ad (upI v 25 z) := by simp [xf0, upI]
theorem gx_X0_10_0 (F : FX l R D dA (xwf dA ad) cc nL RX0 G) (d : decode cc pc = .ok (.getfield 10, 3)) (kk : G σ (pc + 3) lv (.ref (ad 5000) :: st)) : G σ pc lv (.ref (ad 0) :: st) := jw_get F in_X0 (xh_0 dA ad σ) rfl 0 (by decide) q221 rfl rfl d kk
theorem gx_X0_112_0 (F : FX l R D dA (xwf dA ad) cc nL RX0 G) (d : decode cc pc = .ok (.getfield 112, 3)) (kk : G σ (pc + 3) lv (.int (iI (σ 0 1)) :: st)) : G σ pc lv (.ref (ad 0) :: st) := jw_get F in_X0 (xh_0 dA ad σ) rfl 1 (by decide) q222 rfl rfl d kk
theorem pgx_X0_112_0 (F : FX l R D dA (xwf dA ad) cc nL RX0 G) (d : decode cc pc = .ok (.putfield 112, 3)) (kk : G (up σ 0 1 z) (pc + 3) lv st) : G σ pc lv (.int (iI z) :: .ref (ad 0) :: st) := jw_put F in_X0 tyX0_ok nmX0 (xh_0 dA ad σ) rfl 1 (by decide) q222 rfl rfl rfl rfl (Nat.le_of_ble_eq_true rfl) (by rw [xs_0_1]; exact (xO dA ad).2 σ 0 _ (by decide)) d kk
theorem gx_X0_16_0 (F : FX l R D dA (xwf dA ad) cc nL RX0 G) (d : decode cc pc = .ok (.getfield 16, 3)) (kk : G σ (pc + 3) lv (.ref (ad 3) :: st)) : G σ pc lv (.ref (ad 0) :: st) := jw_get F in_X0 (xh_0 dA ad σ) rfl 2 (by decide) q224 rfl rfl d kk
theorem gx_X0_95_0 (F : FX l R D dA (xwf dA ad) cc nL RX0 G) (d : decode cc pc = .ok (.getfield 95, 3)) (kk : G σ (pc + 3) lv (.int (iI (σ 0 3)) :: st)) : G σ pc lv (.ref (ad 0) :: st) := jw_get F in_X0 (xh_0 dA ad σ) rfl 3 (by decide) q226 rfl rfl d kk
theorem pgx_X0_95_0 (F : FX l R D dA (xwf dA ad) cc nL RX0 G) (d : decode cc pc = .ok (.putfield 95, 3)) (kk : G (up σ 0 3 z) (pc + 3) lv st) : G σ pc lv (.int (iI z) :: .ref (ad 0) :: st) := jw_put F in_X0 tyX0_ok nmX0 (xh_0 dA ad σ) rfl 3 (by decide) q226 rfl rfl rfl rfl (Nat.le_of_ble_eq_true rfl) (by rw [xs_0_3]; exact (xO dA ad).2 σ 0 _ (by decide)) d kk
theorem gx_X0_23_0 (F : FX l R D dA (xwf dA ad) cc nL RX0 G) (d : decode cc pc = .ok (.getfield 23, 3)) (kk : G σ (pc + 3) lv (.ref (ad 1) :: st)) : G σ pc lv (.ref (ad 0) :: st) := jw_get F in_X0 (xh_0 dA ad σ) rfl 4 (by decide) q227 rfl rfl d kk
theorem gx_X0_27_0 (F : FX l R D dA (xwf dA ad) cc nL RX0 G) (d : decode cc pc = .ok (.getfield 27, 3)) (kk : G σ (pc + 3) lv (.ref (ad 2) :: st)) : G σ pc lv (.ref (ad 0) :: st) := jw_get F in_X0 (xh_0 dA ad σ) rfl 5 (by decide) q228 rfl rfl d kk
theorem gx_X0_30_0 (F : FX l R D dA (xwf dA ad) cc nL RX0 G) (d : decode cc pc = .ok (.getfield 30, 3)) (kk : G σ (pc + 3) lv (.ref (ad 4) :: st)) : G σ pc lv (.ref (ad 0) :: st) := jw_get F in_X0 (xh_0 dA ad σ) rfl 6 (by decide) q229 rfl rfl d kk
theorem gx_X0_173_0 (F : FX l R D dA (xwf dA ad) cc nL RX0 G) (d : decode cc pc = .ok (.getfield 173, 3)) (kk : G σ (pc + 3) lv (.int (iI (σ 0 7)) :: st)) : G σ pc lv (.ref (ad 0) :: st) := jw_get F in_X0 (xh_0 dA ad σ) rfl 7 (by decide) q230 rfl rfl d kk
theorem pgx_X0_173_0 (F : FX l R D dA (xwf dA ad) cc nL RX0 G) (d : decode cc pc = .ok (.putfield 173, 3)) (kk : G (up σ 0 7 z) (pc + 3) lv st) : G σ pc lv (.int (iI z) :: .ref (ad 0) :: st) := jw_put F in_X0 tyX0_ok nmX0 (xh_0 dA ad σ) rfl 7 (by decide) q230 rfl rfl rfl rfl (Nat.le_of_ble_eq_true rfl) (by rw [xs_0_7]; exact (xO dA ad).2 σ 0 _ (by decide)) d kk
theorem gx_X0_34_0 (F : FX l R D dA (xwf dA ad) cc nL RX0 G) (d : decode cc pc = .ok (.getfield 34, 3)) (kk : G σ (pc + 3) lv (.ref (ad 5) :: st)) : G σ pc lv (.ref (ad 0) :: st) := jw_get F in_X0 (xh_0 dA ad σ) rfl 8 (by decide) q231 rfl rfl d kk
theorem gx_X0_170_0 (F : FX l R D dA (xwf dA ad) cc nL RX0 G) (d : decode cc pc = .ok (.getfield 170, 3)) (kk : G σ (pc + 3) lv (.int (iI (σ 0 9)) :: st)) : G σ pc lv (.ref (ad 0) :: st) := jw_get F in_X0 (xh_0 dA ad σ) rfl 9 (by decide) q232 rfl rfl d kk
theorem pgx_X0_170_0 (F : FX l R D dA (xwf dA ad) cc nL RX0 G) (d : decode cc pc = .ok (.putfield 170, 3)) (kk : G (up σ 0 9 z) (pc + 3) lv st) : G σ pc lv (.int (iI z) :: .ref (ad 0) :: st) := jw_put F in_X0 tyX0_ok nmX0 (xh_0 dA ad σ) rfl 9 (by decide) q232 rfl rfl rfl rfl (Nat.le_of_ble_eq_true rfl) (by rw [xs_0_9]; exact (xO dA ad).2 σ 0 _ (by decide)) d kk
theorem gx_X0_37_0 (F : FX l R D dA (xwf dA ad) cc nL RX0 G) (d : decode cc pc = .ok (.getfield 37, 3)) (kk : G σ (pc + 3) lv (.ref (ad 6) :: st)) : G σ pc lv (.ref (ad 0) :: st) := jw_get F in_X0 (xh_0 dA ad σ) rfl 10 (by decide) q233 rfl rfl d kk
theorem gx_X0_42_0 (F : FX l R D dA (xwf dA ad) cc nL RX0 G) (d : decode cc pc = .ok (.getfield 42, 3)) (kk : G σ (pc + 3) lv (.ref (ad 7) :: st)) : G σ pc lv (.ref (ad 0) :: st) := jw_get F in_X0 (xh_0 dA ad σ) rfl 11 (by decide) q234 rfl rfl d kk
theorem gx_X0_45_0 (F : FX l R D dA (xwf dA ad) cc nL RX0 G) (d : decode cc pc = .ok (.getfield 45, 3)) (kk : G σ (pc + 3) lv (.ref (ad 8) :: st)) : G σ pc lv (.ref (ad 0) :: st) := jw_get F in_X0 (xh_0 dA ad σ) rfl 12 (by decide) q235 rfl rfl d kk
theorem gx_X0_48_0 (F : FX l R D dA (xwf dA ad) cc nL RX0 G) (d : decode cc pc = .ok (.getfield 48, 3)) (kk : G σ (pc + 3) lv (.ref (ad 9) :: st)) : G σ pc lv (.ref (ad 0) :: st) := jw_get F in_X0 (xh_0 dA ad σ) rfl 13 (by decide) q236 rfl rfl d kk
theorem gx_X0_115_0 (F : FX l R D dA (xwf dA ad) cc nL RX0 G) (d : decode cc pc = .ok (.getfield 115, 3)) (kk : G σ (pc + 3) lv (.int (iI (σ 0 14)) :: st)) : G σ pc lv (.ref (ad 0) :: st) := jw_get F in_X0 (xh_0 dA ad σ) rfl 14 (by decide) q237 rfl rfl d kk
theorem pgx_X0_115_0 (F : FX l R D dA (xwf dA ad) cc nL RX0 G) (d : decode cc pc = .ok (.putfield 115, 3)) (kk : G (up σ 0 14 z) (pc + 3) lv st) : G σ pc lv (.int (iI z) :: .ref (ad 0) :: st) := jw_put F in_X0 tyX0_ok nmX0 (xh_0 dA ad σ) rfl 14 (by decide) q237 rfl rfl rfl rfl (Nat.le_of_ble_eq_true rfl) (by rw [xs_0_14]; exact (xO dA ad).2 σ 0 _ (by decide)) d kk
theorem gx_X0_51_0 (F : FX l R D dA (xwf dA ad) cc nL RX0 G) (d : decode cc pc = .ok (.getfield 51, 3)) (kk : G σ (pc + 3) lv (.ref (ad 10) :: st)) : G σ pc lv (.ref (ad 0) :: st) := jw_get F in_X0 (xh_0 dA ad σ) rfl 15 (by decide) q238 rfl rfl d kk
theorem gx_X0_214_0 (F : FX l R D dA (xwf dA ad) cc nL RX0 G) (d : decode cc pc = .ok (.getfield 214, 3)) (kk : G σ (pc + 3) lv (.int (iI (σ 0 16)) :: st)) : G σ pc lv (.ref (ad 0) :: st) := jw_get F in_X0 (xh_0 dA ad σ) rfl 16 (by decide) q239 rfl rfl d kk
theorem pgx_X0_214_0 (F : FX l R D dA (xwf dA ad) cc nL RX0 G) (d : decode cc pc = .ok (.putfield 214, 3)) (kk : G (up σ 0 16 z) (pc + 3) lv st) : G σ pc lv (.int (iI z) :: .ref (ad 0) :: st) := jw_put F in_X0 tyX0_ok nmX0 (xh_0 dA ad σ) rfl 16 (by decide) q239 rfl rfl rfl rfl (Nat.le_of_ble_eq_true rfl) (by rw [xs_0_16]; exact (xO dA ad).2 σ 0 _ (by decide)) d kk
theorem gx_X0_54_0 (F : FX l R D dA (xwf dA ad) cc nL RX0 G) (d : decode cc pc = .ok (.getfield 54, 3)) (kk : G σ (pc + 3) lv (.ref (ad 11) :: st)) : G σ pc lv (.ref (ad 0) :: st) := jw_get F in_X0 (xh_0 dA ad σ) rfl 17 (by decide) q240 rfl rfl d kk
theorem gx_X0_57_0 (F : FX l R D dA (xwf dA ad) cc nL RX0 G) (d : decode cc pc = .ok (.getfield 57, 3)) (kk : G σ (pc + 3) lv (.ref (ad 12) :: st)) : G σ pc lv (.ref (ad 0) :: st) := jw_get F in_X0 (xh_0 dA ad σ) rfl 18 (by decide) q241 rfl rfl d kk
theorem gx_X0_254_0 (F : FX l R D dA (xwf dA ad) cc nL RX0 G) (d : decode cc pc = .ok (.getfield 254, 3)) (kk : G σ (pc + 3) lv (.int (iI (σ 0 19)) :: st)) : G σ pc lv (.ref (ad 0) :: st) := jw_get F in_X0 (xh_0 dA ad σ) rfl 19 (by decide) q242 rfl rfl d kk
theorem pgx_X0_254_0 (F : FX l R D dA (xwf dA ad) cc nL RX0 G) (d : decode cc pc = .ok (.putfield 254, 3)) (kk : G (up σ 0 19 z) (pc + 3) lv st) : G σ pc lv (.int (iI z) :: .ref (ad 0) :: st) := jw_put F in_X0 tyX0_ok nmX0 (xh_0 dA ad σ) rfl 19 (by decide) q242 rfl rfl rfl rfl (Nat.le_of_ble_eq_true rfl) (by rw [xs_0_19]; exact (xO dA ad).2 σ 0 _ (by decide)) d kk
theorem gx_X0_62_0 (F : FX l R D dA (xwf dA ad) cc nL RX0 G) (d : decode cc pc = .ok (.getfield 62, 3)) (kk : G σ (pc + 3) lv (.ref (ad 13) :: st)) : G σ pc lv (.ref (ad 0) :: st) := jw_get F in_X0 (xh_0 dA ad σ) rfl 20 (by decide) q243 rfl rfl d kk
theorem gx_X0_299_0 (F : FX l R D dA (xwf dA ad) cc nL RX0 G) (d : decode cc pc = .ok (.getfield 299, 3)) (kk : G σ (pc + 3) lv (.int (iI (σ 0 21)) :: st)) : G σ pc lv (.ref (ad 0) :: st) := jw_get F in_X0 (xh_0 dA ad σ) rfl 21 (by decide) q244 rfl rfl d kk
theorem pgx_X0_299_0 (F : FX l R D dA (xwf dA ad) cc nL RX0 G) (h01 : z = 0 ∨ z = 1) (d : decode cc pc = .ok (.putfield 299, 3)) (kk : G (up σ 0 21 z) (pc + 3) lv st) : G σ pc lv (.int (iI z) :: .ref (ad 0) :: st) := jw_put F in_X0 tyX0_ok nmX0 (xh_0 dA ad σ) rfl 21 (by decide) q244 rfl rfl (by rcases h01 with rfl | rfl <;> rfl) (by rcases h01 with rfl | rfl <;> rfl) (Nat.le_of_ble_eq_true rfl) (by rw [xs_0_21]; exact (xO dA ad).2 σ 0 _ (by decide)) d kk
theorem gx_X0_303_0 (F : FX l R D dA (xwf dA ad) cc nL RX0 G) (d : decode cc pc = .ok (.getfield 303, 3)) (kk : G σ (pc + 3) lv (.int (iI (σ 0 22)) :: st)) : G σ pc lv (.ref (ad 0) :: st) := jw_get F in_X0 (xh_0 dA ad σ) rfl 22 (by decide) q245 rfl rfl d kk
theorem pgx_X0_303_0 (F : FX l R D dA (xwf dA ad) cc nL RX0 G) (d : decode cc pc = .ok (.putfield 303, 3)) (kk : G (up σ 0 22 z) (pc + 3) lv st) : G σ pc lv (.int (iI z) :: .ref (ad 0) :: st) := jw_put F in_X0 tyX0_ok nmX0 (xh_0 dA ad σ) rfl 22 (by decide) q245 rfl rfl rfl rfl (Nat.le_of_ble_eq_true rfl) (by rw [xs_0_22]; exact (xO dA ad).2 σ 0 _ (by decide)) d kk
theorem gx_X0_306_0 (F : FX l R D dA (xwf dA ad) cc nL RX0 G) (d : decode cc pc = .ok (.getfield 306, 3)) (kk : G σ (pc + 3) lv (.int (iI (σ 0 23)) :: st)) : G σ pc lv (.ref (ad 0) :: st) := jw_get F in_X0 (xh_0 dA ad σ) rfl 23 (by decide) q246 rfl rfl d kk
theorem pgx_X0_306_0 (F : FX l R D dA (xwf dA ad) cc nL RX0 G) (d : decode cc pc = .ok (.putfield 306, 3)) (kk : G (up σ 0 23 z) (pc + 3) lv st) : G σ pc lv (.int (iI z) :: .ref (ad 0) :: st) := jw_put F in_X0 tyX0_ok nmX0 (xh_0 dA ad σ) rfl 23 (by decide) q246 rfl rfl rfl rfl (Nat.le_of_ble_eq_true rfl) (by rw [xs_0_23]; exact (xO dA ad).2 σ 0 _ (by decide)) d kk
theorem gx_X0_309_0 (F : FX l R D dA (xwf dA ad) cc nL RX0 G) (d : decode cc pc = .ok (.getfield 309, 3)) (kk : G σ (pc + 3) lv (.int (iI (σ 0 24)) :: st)) : G σ pc lv (.ref (ad 0) :: st) := jw_get F in_X0 (xh_0 dA ad σ) rfl 24 (by decide) q247 rfl rfl d kk
theorem pgx_X0_309_0 (F : FX l R D dA (xwf dA ad) cc nL RX0 G) (d : decode cc pc = .ok (.putfield 309, 3)) (kk : G (up σ 0 24 z) (pc + 3) lv st) : G σ pc lv (.int (iI z) :: .ref (ad 0) :: st) := jw_put F in_X0 tyX0_ok nmX0 (xh_0 dA ad σ) rfl 24 (by decide) q247 rfl rfl rfl rfl (Nat.le_of_ble_eq_true rfl) (by rw [xs_0_24]; exact (xO dA ad).2 σ 0 _ (by decide)) d kk
theorem gx_X0_312_0 (F : FX l R D dA (xwf dA ad) cc nL RX0 G) (d : decode cc pc = .ok (.getfield 312, 3)) (kk : G σ (pc + 3) lv (.int (iI (σ 0 25)) :: st)) : G σ pc lv (.ref (ad 0) :: st) := jw_get F in_X0 (xh_0 dA ad σ) rfl 25 (by decide) q248 rfl rfl d kk
theorem pgx_X0_312_0 (F : FX l R D dA (xwf dA ad) cc nL RX0 G) (d : decode cc pc = .ok (.putfield 312, 3)) (kk : G (up σ 0 25 z) (pc + 3) lv st) : G σ pc lv (.int (iI z) :: .ref (ad 0) :: st) := jw_put F in_X0 tyX0_ok nmX0 (xh_0 dA ad σ) rfl 25 (by decide) q248 rfl rfl rfl rfl (Nat.le_of_ble_eq_true rfl) (by rw [xs_0_25]; exact (xO dA ad).2 σ 0 _ (by decide)) d kk
theorem gx_X0_65_0 (F : FX l R D dA (xwf dA ad) cc nL RX0 G) (d : decode cc pc = .ok (.getfield 65, 3)) (kk : G σ (pc + 3) lv (.ref (ad 14) :: st)) : G σ pc lv (.ref (ad 0) :: st) := jw_get F in_X0 (xh_0 dA ad σ) rfl 26 (by decide) q249 rfl rfl d kk
theorem gx_X0_68_0 (F : FX l R D dA (xwf dA ad) cc nL RX0 G) (d : decode cc pc = .ok (.getfield 68, 3)) (kk : G σ (pc + 3) lv (.ref (ad 15) :: st)) : G σ pc lv (.ref (ad 0) :: st) := jw_get F in_X0 (xh_0 dA ad σ) rfl 27 (by decide) q250 rfl rfl d kk
theorem gx_X0_71_0 (F : FX l R D dA (xwf dA ad) cc nL RX0 G) (d : decode cc pc = .ok (.getfield 71, 3)) (kk : G σ (pc + 3) lv (.ref (ad 16) :: st)) : G σ pc lv (.ref (ad 0) :: st) := jw_get F in_X0 (xh_0 dA ad σ) rfl 28 (by decide) q251 rfl rfl d kk
theorem gx_X0_74_0 (F : FX l R D dA (xwf dA ad) cc nL RX0 G) (d : decode cc pc = .ok (.getfield 74, 3)) (kk : G σ (pc + 3) lv (.ref (ad 17) :: st)) : G σ pc lv (.ref (ad 0) :: st) := jw_get F in_X0 (xh_0 dA ad σ) rfl 29 (by decide) q252 rfl rfl d kk
theorem gx_X3_22_0 (F : FX l R D dA (xwf dA ad) cc nL RX3 G) (d : decode cc pc = .ok (.getfield 22, 3)) (kk : G σ (pc + 3) lv (.ref (ad 3) :: st)) : G σ pc lv (.ref (ad 0) :: st) := jw_getN F in_X0 (xh_0 dA ad σ) rfl 2 (by decide) (jw_nwi 8 rfl) rfl rfl d kk
theorem gx_X3_19_0 (F : FX l R D dA (xwf dA ad) cc nL RX3 G) (d : decode cc pc = .ok (.getfield 19, 3)) (kk : G σ (pc + 3) lv (.int (iI (σ 0 3)) :: st)) : G σ pc lv (.ref (ad 0) :: st) := jw_getN F in_X0 (xh_0 dA ad σ) rfl 3 (by decide) (jw_nwi 9 rfl) rfl rfl d kk
theorem pgx_X3_19_0 (F : FX l R D dA (xwf dA ad) cc nL RX3 G) (d : decode cc pc = .ok (.putfield 19, 3)) (kk : G (up σ 0 3 z) (pc + 3) lv st) : G σ pc lv (.int (iI z) :: .ref (ad 0) :: st) := jw_putN F in_X0 tyX0_ok nmX0 (xh_0 dA ad σ) rfl 3 (by decide) (jw_nwi 9 rfl) rfl rfl rfl rfl (Nat.le_of_ble_eq_true rfl) (by rw [xs_0_3]; exact (xO dA ad).2 σ 0 _ (by decide)) d kk
theorem xs_1_0 (v : Int → Int) : (xf1 ad v).set 0 (.int (iI z)) = xf1 ad (upI v 0 z) := by simp [xf1, upI]
theorem xs_1_1 (v : Int → Int) : (xf1 ad v).set 1 (.int (iI z)) = xf1 ad (upI v 1 z) := by simp [xf1, upI]
theorem xs_1_2 (v : Int → Int) : (xf1 ad v).set 2 (.int (iI z)) = xf1 ad (upI v 2 z) := by simp [xf1, upI]
theorem gx_X1_26_1 (F : FX l R D dA (xwf dA ad) cc nL RX1 G) (d : decode cc pc = .ok (.getfield 26, 3)) (kk : G σ (pc + 3) lv (.int (iI (σ 1 0)) :: st)) : G σ pc lv (.ref (ad 1) :: st) := jw_get F in_X1 (xh_1 dA ad σ) rfl 0 (by decide) q133 rfl rfl d kk
theorem pgx_X1_26_1 (F : FX l R D dA (xwf dA ad) cc nL RX1 G) (d : decode cc pc = .ok (.putfield 26, 3)) (kk : G (up σ 1 0 z) (pc + 3) lv st) : G σ pc lv (.int (iI z) :: .ref (ad 1) :: st) := jw_put F in_X1 tyX1_ok nmX1 (xh_1 dA ad σ) rfl 0 (by decide) q133 rfl rfl rfl rfl (Nat.le_of_ble_eq_true rfl) (by rw [xs_1_0]; exact (xO dA ad).2 σ 1 _ (by decide)) d kk
theorem gx_X1_30_1 (F : FX l R D dA (xwf dA ad) cc nL RX1 G) (d : decode cc pc = .ok (.getfield 30, 3)) (kk : G σ (pc + 3) lv (.int (iI (σ 1 1)) :: st)) : G σ pc lv (.ref (ad 1) :: st) := jw_get F in_X1 (xh_1 dA ad σ) rfl 1 (by decide) q135 rfl rfl d kk
theorem pgx_X1_30_1 (F : FX l R D dA (xwf dA ad) cc nL RX1 G) (d : decode cc pc = .ok (.putfield 30, 3)) (kk : G (up σ 1 1 z) (pc + 3) lv st) : G σ pc lv (.int (iI z) :: .ref (ad 1) :: st) := jw_put F in_X1 tyX1_ok nmX1 (xh_1 dA ad σ) rfl 1 (by decide) q135 rfl rfl rfl rfl (Nat.le_of_ble_eq_true rfl) (by rw [xs_1_1]; exact (xO dA ad).2 σ 1 _ (by decide)) d kk
theorem gx_X1_11_1 (F : FX l R D dA (xwf dA ad) cc nL RX1 G) (d : decode cc pc = .ok (.getfield 11, 3)) (kk : G σ (pc + 3) lv (.ref (ad 18) :: st)) : G σ pc lv (.ref (ad 1) :: st) := jw_get F in_X1 (xh_1 dA ad σ) rfl 3 (by decide) q138 rfl rfl d kk
theorem gx_X1_16_1 (F : FX l R D dA (xwf dA ad) cc nL RX1 G) (d : decode cc pc = .ok (.getfield 16, 3)) (kk : G σ (pc + 3) lv (.ref (ad 19) :: st)) : G σ pc lv (.ref (ad 1) :: st) := jw_get F in_X1 (xh_1 dA ad σ) rfl 4 (by decide) q140 rfl rfl d kk
theorem gx_X1_20_1 (F : FX l R D dA (xwf dA ad) cc nL RX1 G) (d : decode cc pc = .ok (.getfield 20, 3)) (kk : G σ (pc + 3) lv (.ref (ad 20) :: st)) : G σ pc lv (.ref (ad 1) :: st) := jw_get F in_X1 (xh_1 dA ad σ) rfl 5 (by decide) q142 rfl rfl d kk
theorem gx_X1_23_1 (F : FX l R D dA (xwf dA ad) cc nL RX1 G) (d : decode cc pc = .ok (.getfield 23, 3)) (kk : G σ (pc + 3) lv (.ref (ad 21) :: st)) : G σ pc lv (.ref (ad 1) :: st) := jw_get F in_X1 (xh_1 dA ad σ) rfl 6 (by decide) q144 rfl rfl d kk
theorem gx_X0_144_1 (F : FX l R D dA (xwf dA ad) cc nL RX0 G) (d : decode cc pc = .ok (.getfield 144, 3)) (kk : G σ (pc + 3) lv (.int (iI (σ 1 0)) :: st)) : G σ pc lv (.ref (ad 1) :: st) := jw_getN F in_X1 (xh_1 dA ad σ) rfl 0 (by decide) (jw_nwi 0 rfl) rfl rfl d kk
theorem pgx_X0_144_1 (F : FX l R D dA (xwf dA ad) cc nL RX0 G) (d : decode cc pc = .ok (.putfield 144, 3)) (kk : G (up σ 1 0 z) (pc + 3) lv st) : G σ pc lv (.int (iI z) :: .ref (ad 1) :: st) := jw_putN F in_X1 tyX1_ok nmX1 (xh_1 dA ad σ) rfl 0 (by decide) (jw_nwi 0 rfl) rfl rfl rfl rfl (Nat.le_of_ble_eq_true rfl) (by rw [xs_1_0]; exact (xO dA ad).2 σ 1 _ (by decide)) d kk
theorem gx_X0_151_1 (F : FX l R D dA (xwf dA ad) cc nL RX0 G) (d : decode cc pc = .ok (.getfield 151, 3)) (kk : G σ (pc + 3) lv (.int (iI (σ 1 1)) :: st)) : G σ pc lv (.ref (ad 1) :: st) := jw_getN F in_X1 (xh_1 dA ad σ) rfl 1 (by decide) (jw_nwi 1 rfl) rfl rfl d kk
theorem pgx_X0_151_1 (F : FX l R D dA (xwf dA ad) cc nL RX0 G) (d : decode cc pc = .ok (.putfield 151, 3)) (kk : G (up σ 1 1 z) (pc + 3) lv st) : G σ pc lv (.int (iI z) :: .ref (ad 1) :: st) := jw_putN F in_X1 tyX1_ok nmX1 (xh_1 dA ad σ) rfl 1 (by decide) (jw_nwi 1 rfl) rfl rfl rfl rfl (Nat.le_of_ble_eq_true rfl) (by rw [xs_1_1]; exact (xO dA ad).2 σ 1 _ (by decide)) d kk
theorem gx_X0_118_1 (F : FX l R D dA (xwf dA ad) cc nL RX0 G) (d : decode cc pc = .ok (.getfield 118, 3)) (kk : G σ (pc + 3) lv (.int (iI (σ 1 2)) :: st)) : G σ pc lv (.ref (ad 1) :: st) := jw_getN F in_X1 (xh_1 dA ad σ) rfl 2 (by decide) (jw_nwi 2 rfl) rfl rfl d kk
theorem pgx_X0_118_1 (F : FX l R D dA (xwf dA ad) cc nL RX0 G) (d : decode cc pc = .ok (.putfield 118, 3)) (kk : G (up σ 1 2 z) (pc + 3) lv st) : G σ pc lv (.int (iI z) :: .ref (ad 1) :: st) := jw_putN F in_X1 tyX1_ok nmX1 (xh_1 dA ad σ) rfl 2 (by decide) (jw_nwi 2 rfl) rfl rfl rfl rfl (Nat.le_of_ble_eq_true rfl) (by rw [xs_1_2]; exact (xO dA ad).2 σ 1 _ (by decide)) d kk
theorem gx_X0_185_1 (F : FX l R D dA (xwf dA ad) cc nL RX0 G) (d : decode cc pc = .ok (.getfield 185, 3)) (kk : G σ (pc + 3) lv (.ref (ad 18) :: st)) : G σ pc lv (.ref (ad 1) :: st) := jw_getN F in_X1 (xh_1 dA ad σ) rfl 3 (by decide) (jw_nwi 3 rfl) rfl rfl d kk
theorem gx_X0_154_1 (F : FX l R D dA (xwf dA ad) cc nL RX0 G) (d : decode cc pc = .ok (.getfield 154, 3)) (kk : G σ (pc + 3) lv (.ref (ad 19) :: st)) : G σ pc lv (.ref (ad 1) :: st) := jw_getN F in_X1 (xh_1 dA ad σ) rfl 4 (by decide) (jw_nwi 4 rfl) rfl rfl d kk
theorem gx_X0_157_1 (F : FX l R D dA (xwf dA ad) cc nL RX0 G) (d : decode cc pc = .ok (.getfield 157, 3)) (kk : G σ (pc + 3) lv (.ref (ad 20) :: st)) : G σ pc lv (.ref (ad 1) :: st) := jw_getN F in_X1 (xh_1 dA ad σ) rfl 5 (by decide) (jw_nwi 5 rfl) rfl rfl d kk
theorem gx_X0_160_1 (F : FX l R D dA (xwf dA ad) cc nL RX0 G) (d : decode cc pc = .ok (.getfield 160, 3)) (kk : G σ (pc + 3) lv (.ref (ad 21) :: st)) : G σ pc lv (.ref (ad 1) :: st) := jw_getN F in_X1 (xh_1 dA ad σ) rfl 6 (by decide) (jw_nwi 6 rfl) rfl rfl d kk
theorem xs_2_0 (v : Int → Int) : (xf2 ad v).set 0 (.int (iI z)) = xf2 ad (upI v 0 z) := by simp [xf2, upI]
theorem xs_2_1 (v : Int → Int) : (xf2 ad v).set 1 (.int (iI z)) = xf2 ad (upI v 1 z) := by simp [xf2, upI]
theorem xs_2_2 (v : Int → Int) : (xf2 ad v).set 2 (.int (iI z)) = xf2 ad (upI v 2 z) := by simp [xf2, upI]
theorem gx_X1_26_2 (F : FX l R D dA (xwf dA ad) cc nL RX1 G) (d : decode cc pc = .ok (.getfield 26, 3)) (kk : G σ (pc + 3) lv (.int (iI (σ 2 0)) :: st)) : G σ pc lv (.ref (ad 2) :: st) := jw_get F in_X1 (xh_2 dA ad σ) rfl 0 (by decide) q133 rfl rfl d kk
theorem pgx_X1_26_2 (F : FX l R D dA (xwf dA ad) cc nL RX1 G) (d : decode cc pc = .ok (.putfield 26, 3)) (kk : G (up σ 2 0 z) (pc + 3) lv st) : G σ pc lv (.int (iI z) :: .ref (ad 2) :: st) := jw_put F in_X1 tyX1_ok nmX1 (xh_2 dA ad σ) rfl 0 (by decide) q133 rfl rfl rfl rfl (Nat.le_of_ble_eq_true rfl) (by rw [xs_2_0]; exact (xO dA ad).2 σ 2 _ (by decide)) d kk
theorem gx_X1_30_2 (F : FX l R D dA (xwf dA ad) cc nL RX1 G) (d : decode cc pc = .ok (.getfield 30, 3)) (kk : G σ (pc + 3) lv (.int (iI (σ 2 1)) :: st)) : G σ pc lv (.ref (ad 2) :: st) := jw_get F in_X1 (xh_2 dA ad σ) rfl 1 (by decide) q135 rfl rfl d kk
theorem pgx_X1_30_2 (F : FX l R D dA (xwf dA ad) cc nL RX1 G) (d : decode cc pc = .ok (.putfield 30, 3)) (kk : G (up σ 2 1 z) (pc + 3) lv st) : G σ pc lv (.int (iI z) :: .ref (ad 2) :: st) := jw_put F in_X1 tyX1_ok nmX1 (xh_2 dA ad σ) rfl 1 (by decide) q135 rfl rfl rfl rfl (Nat.le_of_ble_eq_true rfl) (by rw [xs_2_1]; exact (xO dA ad).2 σ 2 _ (by decide)) d kk
theorem gx_X1_11_2 (F : FX l R D dA (xwf dA ad) cc nL RX1 G) (d : decode cc pc = .ok (.getfield 11, 3)) (kk : G σ (pc + 3) lv (.ref (ad 22) :: st)) : G σ pc lv (.ref (ad 2) :: st) := jw_get F in_X1 (xh_2 dA ad σ) rfl 3 (by decide) q138 rfl rfl d kk
theorem gx_X1_16_2 (F : FX l R D dA (xwf dA ad) cc nL RX1 G) (d : decode cc pc = .ok (.getfield 16, 3)) (kk : G σ (pc + 3) lv (.ref (ad 23) :: st)) : G σ pc lv (.ref (ad 2) :: st) := jw_get F in_X1 (xh_2 dA ad σ) rfl 4 (by decide) q140 rfl rfl d kk
theorem gx_X1_20_2 (F : FX l R D dA (xwf dA ad) cc nL RX1 G) (d : decode cc pc = .ok (.getfield 20, 3)) (kk : G σ (pc + 3) lv (.ref (ad 24) :: st)) : G σ pc lv (.ref (ad 2) :: st) := jw_get F in_X1 (xh_2 dA ad σ) rfl 5 (by decide) q142 rfl rfl d kk
theorem gx_X1_23_2 (F : FX l R D dA (xwf dA ad) cc nL RX1 G) (d : decode cc pc = .ok (.getfield 23, 3)) (kk : G σ (pc + 3) lv (.ref (ad 25) :: st)) : G σ pc lv (.ref (ad 2) :: st) := jw_get F in_X1 (xh_2 dA ad σ) rfl 6 (by decide) q144 rfl rfl d kk
theorem gx_X0_144_2 (F : FX l R D dA (xwf dA ad) cc nL RX0 G) (d : decode cc pc = .ok (.getfield 144, 3)) (kk : G σ (pc + 3) lv (.int (iI (σ 2 0)) :: st)) : G σ pc lv (.ref (ad 2) :: st) := jw_getN F in_X1 (xh_2 dA ad σ) rfl 0 (by decide) (jw_nwi 0 rfl) rfl rfl d kk
theorem pgx_X0_144_2 (F : FX l R D dA (xwf dA ad) cc nL RX0 G) (d : decode cc pc = .ok (.putfield 144, 3)) (kk : G (up σ 2 0 z) (pc + 3) lv st) : G σ pc lv (.int (iI z) :: .ref (ad 2) :: st) := jw_putN F in_X1 tyX1_ok nmX1 (xh_2 dA ad σ) rfl 0 (by decide) (jw_nwi 0 rfl) rfl rfl rfl rfl (Nat.le_of_ble_eq_true rfl) (by rw [xs_2_0]; exact (xO dA ad).2 σ 2 _ (by decide)) d kk
theorem gx_X0_151_2 (F : FX l R D dA (xwf dA ad) cc nL RX0 G) (d : decode cc pc = .ok (.getfield 151, 3)) (kk : G σ (pc + 3) lv (.int (iI (σ 2 1)) :: st)) : G σ pc lv (.ref (ad 2) :: st) := jw_getN F in_X1 (xh_2 dA ad σ) rfl 1 (by decide) (jw_nwi 1 rfl) rfl rfl d kk
theorem pgx_X0_151_2 (F : FX l R D dA (xwf dA ad) cc nL RX0 G) (d : decode cc pc = .ok (.putfield 151, 3)) (kk : G (up σ 2 1 z) (pc + 3) lv st) : G σ pc lv (.int (iI z) :: .ref (ad 2) :: st) := jw_putN F in_X1 tyX1_ok nmX1 (xh_2 dA ad σ) rfl 1 (by decide) (jw_nwi 1 rfl) rfl rfl rfl rfl (Nat.le_of_ble_eq_true rfl) (by rw [xs_2_1]; exact (xO dA ad).2 σ 2 _ (by decide)) d kk
theorem gx_X0_118_2 (F : FX l R D dA (xwf dA ad) cc nL RX0 G) (d : decode cc pc = .ok (.getfield 118, 3)) (kk : G σ (pc + 3) lv (.int (iI (σ 2 2)) :: st)) : G σ pc lv (.ref (ad 2) :: st) := jw_getN F in_X1 (xh_2 dA ad σ) rfl 2 (by decide) (jw_nwi 2 rfl) rfl rfl d kk
theorem pgx_X0_118_2 (F : FX l R D dA (xwf dA ad) cc nL RX0 G) (d : decode cc pc = .ok (.putfield 118, 3)) (kk : G (up σ 2 2 z) (pc + 3) lv st) : G σ pc lv (.int (iI z) :: .ref (ad 2) :: st) := jw_putN F in_X1 tyX1_ok nmX1 (xh_2 dA ad σ) rfl 2 (by decide) (jw_nwi 2 rfl) rfl rfl rfl rfl (Nat.le_of_ble_eq_true rfl) (by rw [xs_2_2]; exact (xO dA ad).2 σ 2 _ (by decide)) d kk
theorem gx_X0_185_2 (F : FX l R D dA (xwf dA ad) cc nL RX0 G) (d : decode cc pc = .ok (.getfield 185, 3)) (kk : G σ (pc + 3) lv (.ref (ad 22) :: st)) : G σ pc lv (.ref (ad 2) :: st) := jw_getN F in_X1 (xh_2 dA ad σ) rfl 3 (by decide) (jw_nwi 3 rfl) rfl rfl d kk
theorem gx_X0_154_2 (F : FX l R D dA (xwf dA ad) cc nL RX0 G) (d : decode cc pc = .ok (.getfield 154, 3)) (kk : G σ (pc + 3) lv (.ref (ad 23) :: st)) : G σ pc lv (.ref (ad 2) :: st) := jw_getN F in_X1 (xh_2 dA ad σ) rfl 4 (by decide) (jw_nwi 4 rfl) rfl rfl d kk
theorem gx_X0_157_2 (F : FX l R D dA (xwf dA ad) cc nL RX0 G) (d : decode cc pc = .ok (.getfield 157, 3)) (kk : G σ (pc + 3) lv (.ref (ad 24) :: st)) : G σ pc lv (.ref (ad 2) :: st) := jw_getN F in_X1 (xh_2 dA ad σ) rfl 5 (by decide) (jw_nwi 5 rfl) rfl rfl d kk
theorem gx_X0_160_2 (F : FX l R D dA (xwf dA ad) cc nL RX0 G) (d : decode cc pc = .ok (.getfield 160, 3)) (kk : G σ (pc + 3) lv (.ref (ad 25) :: st)) : G σ pc lv (.ref (ad 2) :: st) := jw_getN F in_X1 (xh_2 dA ad σ) rfl 6 (by decide) (jw_nwi 6 rfl) rfl rfl d kk
theorem ms_0_1 (v : Int → Int) : (mf0 ad v).set 1 (.int (iI z)) = mf0 ad (upI v 1 z) := by simp [mf0, upI]
theorem ms_0_2 (v : Int → Int) : (mf0 ad v).set 2 (.int (iI z)) = mf0 ad (upI v 2 z) := by simp [mf0, upI]
theorem ms_0_4 (v : Int → Int) : (mf0 ad v).set 4 (.int (iI z)) = mf0 ad (upI v 4 z) := by simp [mf0, upI]
theorem ms_0_5 (v : Int → Int) : (mf0 ad v).set 5 (.int (iI z)) = mf0 ad (upI v 5 z) := by simp [mf0, upI]
theorem ms_0_7 (v : Int → Int) : (mf0 ad v).set 7 (.int (iI z)) = mf0 ad (upI v 7 z) := by simp [mf0, upI]
theorem ms_0_8 (v : Int → Int) : (mf0 ad v).set 8 (.int (iI z)) = mf0 ad (upI v 8 z) := by simp [mf0, upI]
theorem ms_0_10 (v : Int → Int) : (mf0 ad v).set 10 (.int (iI z)) = mf0 ad (upI v 10 z) := by simp [mf0, upI]
theorem ms_0_13 (v : Int → Int) : (mf0 ad v).set 13 (.int (iI z)) = mf0 ad (upI v 13 z) := by simp [mf0, upI]
theorem ms_0_15 (v : Int → Int) : (mf0 ad v).set 15 (.int (iI z)) = mf0 ad (upI v 15 z) := by simp [mf0, upI]
theorem ms_0_17 (v : Int → Int) : (mf0 ad v).set 17 (.int (iI z)) = mf0 ad (upI v 17 z) := by simp [mf0, upI]
theorem ms_0_21 (v : Int → Int) : (mf0 ad v).set 21 (.int (iI z)) = mf0 ad (upI v 21 z) := by simp [mf0, upI]
theorem ms_0_22 (v : Int → Int) : (mf0 ad v).set 22 (.int (iI z)) = mf0 ad (upI v 22 z) := by simp [mf0, upI]
theorem ms_0_24 (v : Int → Int) : (mf0 ad v).set 24 (.int (iI z)) = mf0 ad (upI v 24 z) := by simp [mf0, upI]
theorem ms_0_28 (v : Int → Int) : (mf0 ad v).set 28 (.int (iI z)) = mf0 ad (upI v 28 z) := by simp [mf0, upI]
theorem ms_0_29 (v : Int → Int) : (mf0 ad v).set 29 (.int (iI z)) = mf0 ad (upI v 29 z) := by simp [mf0, upI]
theorem ms_0_30 (v : Int → Int) : (mf0 ad v).set 30 (.int (iI z)) = mf0 ad (upI v 30 z) := by simp [mf0, upI]
theorem ms_0_33 (v : Int → Int) : (mf0 ad v).set 33 (.long (lI z)) = mf0 ad (upI v 33 z) := by simp [mf0, upI]
theorem gx_X2_7_0 (F : FX l R D dA (mwf dA ad) cc nL RX2 G) (d : decode cc pc = .ok (.getfield 7, 3)) (kk : G σ (pc + 3) lv (.ref (ad 1) :: st)) : G σ pc lv (.ref (ad 0) :: st) := jw_get F in_X2 (mh_0 dA ad σ) rfl 0 (by decide) q838 rfl rfl d kk
theorem gx_X2_75_0 (F : FX l R D dA (mwf dA ad) cc nL RX2 G) (d : decode cc pc = .ok (.getfield 75, 3)) (kk : G σ (pc + 3) lv (.int (iI (σ 0 1)) :: st)) : G σ pc lv (.ref (ad 0) :: st) := jw_get F in_X2 (mh_0 dA ad σ) rfl 1 (by decide) q839 rfl rfl d kk
theorem pgx_X2_75_0 (F : FX l R D dA (mwf dA ad) cc nL RX2 G) (d : decode cc pc = .ok (.putfield 75, 3)) (kk : G (up σ 0 1 z) (pc + 3) lv st) : G σ pc lv (.int (iI z) :: .ref (ad 0) :: st) := jw_put F in_X2 tyX2_ok nmX2 (mh_0 dA ad σ) rfl 1 (by decide) q839 rfl rfl rfl rfl (Nat.le_of_ble_eq_true rfl) (by rw [ms_0_1]; exact (mO dA ad).2 σ 0 _ (by decide)) d kk
theorem gx_X2_112_0 (F : FX l R D dA (mwf dA ad) cc nL RX2 G) (d : decode cc pc = .ok (.getfield 112, 3)) (kk : G σ (pc + 3) lv (.int (iI (σ 0 2)) :: st)) : G σ pc lv (.ref (ad 0) :: st) := jw_get F in_X2 (mh_0 dA ad σ) rfl 2 (by decide) q840 rfl rfl d kk
theorem pgx_X2_112_0 (F : FX l R D dA (mwf dA ad) cc nL RX2 G) (d : decode cc pc = .ok (.putfield 112, 3)) (kk : G (up σ 0 2 z) (pc + 3) lv st) : G σ pc lv (.int (iI z) :: .ref (ad 0) :: st) := jw_put F in_X2 tyX2_ok nmX2 (mh_0 dA ad σ) rfl 2 (by decide) q840 rfl rfl rfl rfl (Nat.le_of_ble_eq_true rfl) (by rw [ms_0_2]; exact (mO dA ad).2 σ 0 _ (by decide)) d kk
theorem gx_X2_13_0 (F : FX l R D dA (mwf dA ad) cc nL RX2 G) (d : decode cc pc = .ok (.getfield 13, 3)) (kk : G σ (pc + 3) lv (.ref (ad 2) :: st)) : G σ pc lv (.ref (ad 0) :: st) := jw_get F in_X2 (mh_0 dA ad σ) rfl 3 (by decide) q841 rfl rfl d kk
theorem gx_X2_81_0 (F : FX l R D dA (mwf dA ad) cc nL RX2 G) (d : decode cc pc = .ok (.getfield 81, 3)) (kk : G σ (pc + 3) lv (.int (iI (σ 0 4)) :: st)) : G σ pc lv (.ref (ad 0) :: st) := jw_get F in_X2 (mh_0 dA ad σ) rfl 4 (by decide) q842 rfl rfl d kk
theorem pgx_X2_81_0 (F : FX l R D dA (mwf dA ad) cc nL RX2 G) (d : decode cc pc = .ok (.putfield 81, 3)) (kk : G (up σ 0 4 z) (pc + 3) lv st) : G σ pc lv (.int (iI z) :: .ref (ad 0) :: st) := jw_put F in_X2 tyX2_ok nmX2 (mh_0 dA ad σ) rfl 4 (by decide) q842 rfl rfl rfl rfl (Nat.le_of_ble_eq_true rfl) (by rw [ms_0_4]; exact (mO dA ad).2 σ 0 _ (by decide)) d kk
theorem gx_X2_78_0 (F : FX l R D dA (mwf dA ad) cc nL RX2 G) (d : decode cc pc = .ok (.getfield 78, 3)) (kk : G σ (pc + 3) lv (.int (iI (σ 0 5)) :: st)) : G σ pc lv (.ref (ad 0) :: st) := jw_get F in_X2 (mh_0 dA ad σ) rfl 5 (by decide) q843 rfl rfl d kk
theorem pgx_X2_78_0 (F : FX l R D dA (mwf dA ad) cc nL RX2 G) (d : decode cc pc = .ok (.putfield 78, 3)) (kk : G (up σ 0 5 z) (pc + 3) lv st) : G σ pc lv (.int (iI z) :: .ref (ad 0) :: st) := jw_put F in_X2 tyX2_ok nmX2 (mh_0 dA ad σ) rfl 5 (by decide) q843 rfl rfl rfl rfl (Nat.le_of_ble_eq_true rfl) (by rw [ms_0_5]; exact (mO dA ad).2 σ 0 _ (by decide)) d kk
theorem gx_X2_16_0 (F : FX l R D dA (mwf dA ad) cc nL RX2 G) (d : decode cc pc = .ok (.getfield 16, 3)) (kk : G σ (pc + 3) lv (.ref (ad 3) :: st)) : G σ pc lv (.ref (ad 0) :: st) := jw_get F in_X2 (mh_0 dA ad σ) rfl 6 (by decide) q844 rfl rfl d kk
theorem gx_X2_67_0 (F : FX l R D dA (mwf dA ad) cc nL RX2 G) (d : decode cc pc = .ok (.getfield 67, 3)) (kk : G σ (pc + 3) lv (.int (iI (σ 0 7)) :: st)) : G σ pc lv (.ref (ad 0) :: st) := jw_get F in_X2 (mh_0 dA ad σ) rfl 7 (by decide) q845 rfl rfl d kk
theorem pgx_X2_67_0 (F : FX l R D dA (mwf dA ad) cc nL RX2 G) (d : decode cc pc = .ok (.putfield 67, 3)) (kk : G (up σ 0 7 z) (pc + 3) lv st) : G σ pc lv (.int (iI z) :: .ref (ad 0) :: st) := jw_put F in_X2 tyX2_ok nmX2 (mh_0 dA ad σ) rfl 7 (by decide) q845 rfl rfl rfl rfl (Nat.le_of_ble_eq_true rfl) (by rw [ms_0_7]; exact (mO dA ad).2 σ 0 _ (by decide)) d kk
theorem gx_X2_102_0 (F : FX l R D dA (mwf dA ad) cc nL RX2 G) (d : decode cc pc = .ok (.getfield 102, 3)) (kk : G σ (pc + 3) lv (.int (iI (σ 0 8)) :: st)) : G σ pc lv (.ref (ad 0) :: st) := jw_get F in_X2 (mh_0 dA ad σ) rfl 8 (by decide) q846 rfl rfl d kk
theorem pgx_X2_102_0 (F : FX l R D dA (mwf dA ad) cc nL RX2 G) (d : decode cc pc = .ok (.putfield 102, 3)) (kk : G (up σ 0 8 z) (pc + 3) lv st) : G σ pc lv (.int (iI z) :: .ref (ad 0) :: st) := jw_put F in_X2 tyX2_ok nmX2 (mh_0 dA ad σ) rfl 8 (by decide) q846 rfl rfl rfl rfl (Nat.le_of_ble_eq_true rfl) (by rw [ms_0_8]; exact (mO dA ad).2 σ 0 _ (by decide)) d kk
theorem gx_X2_19_0 (F : FX l R D dA (mwf dA ad) cc nL RX2 G) (d : decode cc pc = .ok (.getfield 19, 3)) (kk : G σ (pc + 3) lv (.ref (ad 4) :: st)) : G σ pc lv (.ref (ad 0) :: st) := jw_get F in_X2 (mh_0 dA ad σ) rfl 9 (by decide) q847 rfl rfl d kk
theorem gx_X2_109_0 (F : FX l R D dA (mwf dA ad) cc nL RX2 G) (d : decode cc pc = .ok (.getfield 109, 3)) (kk : G σ (pc + 3) lv (.int (iI (σ 0 10)) :: st)) : G σ pc lv (.ref (ad 0) :: st) := jw_get F in_X2 (mh_0 dA ad σ) rfl 10 (by decide) q848 rfl rfl d kk
theorem pgx_X2_109_0 (F : FX l R D dA (mwf dA ad) cc nL RX2 G) (d : decode cc pc = .ok (.putfield 109, 3)) (kk : G (up σ 0 10 z) (pc + 3) lv st) : G σ pc lv (.int (iI z) :: .ref (ad 0) :: st) := jw_put F in_X2 tyX2_ok nmX2 (mh_0 dA ad σ) rfl 10 (by decide) q848 rfl rfl rfl rfl (Nat.le_of_ble_eq_true rfl) (by rw [ms_0_10]; exact (mO dA ad).2 σ 0 _ (by decide)) d kk
theorem gx_X2_22_0 (F : FX l R D dA (mwf dA ad) cc nL RX2 G) (d : decode cc pc = .ok (.getfield 22, 3)) (kk : G σ (pc + 3) lv (.ref (ad 5) :: st)) : G σ pc lv (.ref (ad 0) :: st) := jw_get F in_X2 (mh_0 dA ad σ) rfl 11 (by decide) q849 rfl rfl d kk
theorem gx_X2_25_0 (F : FX l R D dA (mwf dA ad) cc nL RX2 G) (d : decode cc pc = .ok (.getfield 25, 3)) (kk : G σ (pc + 3) lv (.ref (ad 6) :: st)) : G σ pc lv (.ref (ad 0) :: st) := jw_get F in_X2 (mh_0 dA ad σ) rfl 12 (by decide) q850 rfl rfl d kk
theorem gx_X2_127_0 (F : FX l R D dA (mwf dA ad) cc nL RX2 G) (d : decode cc pc = .ok (.getfield 127, 3)) (kk : G σ (pc + 3) lv (.int (iI (σ 0 13)) :: st)) : G σ pc lv (.ref (ad 0) :: st) := jw_get F in_X2 (mh_0 dA ad σ) rfl 13 (by decide) q851 rfl rfl d kk
theorem pgx_X2_127_0 (F : FX l R D dA (mwf dA ad) cc nL RX2 G) (d : decode cc pc = .ok (.putfield 127, 3)) (kk : G (up σ 0 13 z) (pc + 3) lv st) : G σ pc lv (.int (iI z) :: .ref (ad 0) :: st) := jw_put F in_X2 tyX2_ok nmX2 (mh_0 dA ad σ) rfl 13 (by decide) q851 rfl rfl rfl rfl (Nat.le_of_ble_eq_true rfl) (by rw [ms_0_13]; exact (mO dA ad).2 σ 0 _ (by decide)) d kk
theorem gx_X2_28_0 (F : FX l R D dA (mwf dA ad) cc nL RX2 G) (d : decode cc pc = .ok (.getfield 28, 3)) (kk : G σ (pc + 3) lv (.ref (ad 7) :: st)) : G σ pc lv (.ref (ad 0) :: st) := jw_get F in_X2 (mh_0 dA ad σ) rfl 14 (by decide) q852 rfl rfl d kk
theorem gx_X2_130_0 (F : FX l R D dA (mwf dA ad) cc nL RX2 G) (d : decode cc pc = .ok (.getfield 130, 3)) (kk : G σ (pc + 3) lv (.int (iI (σ 0 15)) :: st)) : G σ pc lv (.ref (ad 0) :: st) := jw_get F in_X2 (mh_0 dA ad σ) rfl 15 (by decide) q853 rfl rfl d kk
theorem pgx_X2_130_0 (F : FX l R D dA (mwf dA ad) cc nL RX2 G) (d : decode cc pc = .ok (.putfield 130, 3)) (kk : G (up σ 0 15 z) (pc + 3) lv st) : G σ pc lv (.int (iI z) :: .ref (ad 0) :: st) := jw_put F in_X2 tyX2_ok nmX2 (mh_0 dA ad σ) rfl 15 (by decide) q853 rfl rfl rfl rfl (Nat.le_of_ble_eq_true rfl) (by rw [ms_0_15]; exact (mO dA ad).2 σ 0 _ (by decide)) d kk
theorem gx_X2_31_0 (F : FX l R D dA (mwf dA ad) cc nL RX2 G) (d : decode cc pc = .ok (.getfield 31, 3)) (kk : G σ (pc + 3) lv (.ref (ad 8) :: st)) : G σ pc lv (.ref (ad 0) :: st) := jw_get F in_X2 (mh_0 dA ad σ) rfl 16 (by decide) q854 rfl rfl d kk
theorem gx_X2_133_0 (F : FX l R D dA (mwf dA ad) cc nL RX2 G) (d : decode cc pc = .ok (.getfield 133, 3)) (kk : G σ (pc + 3) lv (.int (iI (σ 0 17)) :: st)) : G σ pc lv (.ref (ad 0) :: st) := jw_get F in_X2 (mh_0 dA ad σ) rfl 17 (by decide) q855 rfl rfl d kk
theorem pgx_X2_133_0 (F : FX l R D dA (mwf dA ad) cc nL RX2 G) (d : decode cc pc = .ok (.putfield 133, 3)) (kk : G (up σ 0 17 z) (pc + 3) lv st) : G σ pc lv (.int (iI z) :: .ref (ad 0) :: st) := jw_put F in_X2 tyX2_ok nmX2 (mh_0 dA ad σ) rfl 17 (by decide) q855 rfl rfl rfl rfl (Nat.le_of_ble_eq_true rfl) (by rw [ms_0_17]; exact (mO dA ad).2 σ 0 _ (by decide)) d kk
theorem gx_X2_34_0 (F : FX l R D dA (mwf dA ad) cc nL RX2 G) (d : decode cc pc = .ok (.getfield 34, 3)) (kk : G σ (pc + 3) lv (.ref (ad 9) :: st)) : G σ pc lv (.ref (ad 0) :: st) := jw_get F in_X2 (mh_0 dA ad σ) rfl 18 (by decide) q856 rfl rfl d kk
theorem gx_X2_38_0 (F : FX l R D dA (mwf dA ad) cc nL RX2 G) (d : decode cc pc = .ok (.getfield 38, 3)) (kk : G σ (pc + 3) lv (.ref (ad 10) :: st)) : G σ pc lv (.ref (ad 0) :: st) := jw_get F in_X2 (mh_0 dA ad σ) rfl 19 (by decide) q857 rfl rfl d kk
theorem gx_X2_41_0 (F : FX l R D dA (mwf dA ad) cc nL RX2 G) (d : decode cc pc = .ok (.getfield 41, 3)) (kk : G σ (pc + 3) lv (.ref (ad 11) :: st)) : G σ pc lv (.ref (ad 0) :: st) := jw_get F in_X2 (mh_0 dA ad σ) rfl 20 (by decide) q858 rfl rfl d kk
theorem gx_X2_182_0 (F : FX l R D dA (mwf dA ad) cc nL RX2 G) (d : decode cc pc = .ok (.getfield 182, 3)) (kk : G σ (pc + 3) lv (.int (iI (σ 0 21)) :: st)) : G σ pc lv (.ref (ad 0) :: st) := jw_get F in_X2 (mh_0 dA ad σ) rfl 21 (by decide) q859 rfl rfl d kk
theorem pgx_X2_182_0 (F : FX l R D dA (mwf dA ad) cc nL RX2 G) (d : decode cc pc = .ok (.putfield 182, 3)) (kk : G (up σ 0 21 z) (pc + 3) lv st) : G σ pc lv (.int (iI z) :: .ref (ad 0) :: st) := jw_put F in_X2 tyX2_ok nmX2 (mh_0 dA ad σ) rfl 21 (by decide) q859 rfl rfl rfl rfl (Nat.le_of_ble_eq_true rfl) (by rw [ms_0_21]; exact (mO dA ad).2 σ 0 _ (by decide)) d kk
theorem gx_X2_197_0 (F : FX l R D dA (mwf dA ad) cc nL RX2 G) (d : decode cc pc = .ok (.getfield 197, 3)) (kk : G σ (pc + 3) lv (.int (iI (σ 0 22)) :: st)) : G σ pc lv (.ref (ad 0) :: st) := jw_get F in_X2 (mh_0 dA ad σ) rfl 22 (by decide) q860 rfl rfl d kk
theorem pgx_X2_197_0 (F : FX l R D dA (mwf dA ad) cc nL RX2 G) (d : decode cc pc = .ok (.putfield 197, 3)) (kk : G (up σ 0 22 z) (pc + 3) lv st) : G σ pc lv (.int (iI z) :: .ref (ad 0) :: st) := jw_put F in_X2 tyX2_ok nmX2 (mh_0 dA ad σ) rfl 22 (by decide) q860 rfl rfl rfl rfl (Nat.le_of_ble_eq_true rfl) (by rw [ms_0_22]; exact (mO dA ad).2 σ 0 _ (by decide)) d kk
theorem gx_X2_44_0 (F : FX l R D dA (mwf dA ad) cc nL RX2 G) (d : decode cc pc = .ok (.getfield 44, 3)) (kk : G σ (pc + 3) lv (.ref (ad 12) :: st)) : G σ pc lv (.ref (ad 0) :: st) := jw_get F in_X2 (mh_0 dA ad σ) rfl 23 (by decide) q861 rfl rfl d kk
theorem gx_X2_212_0 (F : FX l R D dA (mwf dA ad) cc nL RX2 G) (d : decode cc pc = .ok (.getfield 212, 3)) (kk : G σ (pc + 3) lv (.int (iI (σ 0 24)) :: st)) : G σ pc lv (.ref (ad 0) :: st) := jw_get F in_X2 (mh_0 dA ad σ) rfl 24 (by decide) q862 rfl rfl d kk
theorem pgx_X2_212_0 (F : FX l R D dA (mwf dA ad) cc nL RX2 G) (d : decode cc pc = .ok (.putfield 212, 3)) (kk : G (up σ 0 24 z) (pc + 3) lv st) : G σ pc lv (.int (iI z) :: .ref (ad 0) :: st) := jw_put F in_X2 tyX2_ok nmX2 (mh_0 dA ad σ) rfl 24 (by decide) q862 rfl rfl rfl rfl (Nat.le_of_ble_eq_true rfl) (by rw [ms_0_24]; exact (mO dA ad).2 σ 0 _ (by decide)) d kk
theorem gx_X2_48_0 (F : FX l R D dA (mwf dA ad) cc nL RX2 G) (d : decode cc pc = .ok (.getfield 48, 3)) (kk : G σ (pc + 3) lv (.ref (ad 13) :: st)) : G σ pc lv (.ref (ad 0) :: st) := jw_get F in_X2 (mh_0 dA ad σ) rfl 25 (by decide) q863 rfl rfl d kk
theorem gx_X2_51_0 (F : FX l R D dA (mwf dA ad) cc nL RX2 G) (d : decode cc pc = .ok (.getfield 51, 3)) (kk : G σ (pc + 3) lv (.ref (ad 14) :: st)) : G σ pc lv (.ref (ad 0) :: st) := jw_get F in_X2 (mh_0 dA ad σ) rfl 26 (by decide) q864 rfl rfl d kk
theorem gx_X2_54_0 (F : FX l R D dA (mwf dA ad) cc nL RX2 G) (d : decode cc pc = .ok (.getfield 54, 3)) (kk : G σ (pc + 3) lv (.ref (ad 15) :: st)) : G σ pc lv (.ref (ad 0) :: st) := jw_get F in_X2 (mh_0 dA ad σ) rfl 27 (by decide) q865 rfl rfl d kk
theorem gx_X2_63_0 (F : FX l R D dA (mwf dA ad) cc nL RX2 G) (d : decode cc pc = .ok (.getfield 63, 3)) (kk : G σ (pc + 3) lv (.int (iI (σ 0 28)) :: st)) : G σ pc lv (.ref (ad 0) :: st) := jw_get F in_X2 (mh_0 dA ad σ) rfl 28 (by decide) q866 rfl rfl d kk
theorem pgx_X2_63_0 (F : FX l R D dA (mwf dA ad) cc nL RX2 G) (d : decode cc pc = .ok (.putfield 63, 3)) (kk : G (up σ 0 28 z) (pc + 3) lv st) : G σ pc lv (.int (iI z) :: .ref (ad 0) :: st) := jw_put F in_X2 tyX2_ok nmX2 (mh_0 dA ad σ) rfl 28 (by decide) q866 rfl rfl rfl rfl (Nat.le_of_ble_eq_true rfl) (by rw [ms_0_28]; exact (mO dA ad).2 σ 0 _ (by decide)) d kk
theorem gx_X2_237_0 (F : FX l R D dA (mwf dA ad) cc nL RX2 G) (d : decode cc pc = .ok (.getfield 237, 3)) (kk : G σ (pc + 3) lv (.int (iI (σ 0 29)) :: st)) : G σ pc lv (.ref (ad 0) :: st) := jw_get F in_X2 (mh_0 dA ad σ) rfl 29 (by decide) q867 rfl rfl d kk
theorem pgx_X2_237_0 (F : FX l R D dA (mwf dA ad) cc nL RX2 G) (d : decode cc pc = .ok (.putfield 237, 3)) (kk : G (up σ 0 29 z) (pc + 3) lv st) : G σ pc lv (.int (iI z) :: .ref (ad 0) :: st) := jw_put F in_X2 tyX2_ok nmX2 (mh_0 dA ad σ) rfl 29 (by decide) q867 rfl rfl rfl rfl (Nat.le_of_ble_eq_true rfl) (by rw [ms_0_29]; exact (mO dA ad).2 σ 0 _ (by decide)) d kk
theorem gx_X2_240_0 (F : FX l R D dA (mwf dA ad) cc nL RX2 G) (d : decode cc pc = .ok (.getfield 240, 3)) (kk : G σ (pc + 3) lv (.int (iI (σ 0 30)) :: st)) : G σ pc lv (.ref (ad 0) :: st) := jw_get F in_X2 (mh_0 dA ad σ) rfl 30 (by decide) q868 rfl rfl d kk
theorem pgx_X2_240_0 (F : FX l R D dA (mwf dA ad) cc nL RX2 G) (d : decode cc pc = .ok (.putfield 240, 3)) (kk : G (up σ 0 30 z) (pc + 3) lv st) : G σ pc lv (.int (iI z) :: .ref (ad 0) :: st) := jw_put F in_X2 tyX2_ok nmX2 (mh_0 dA ad σ) rfl 30 (by decide) q868 rfl rfl rfl rfl (Nat.le_of_ble_eq_true rfl) (by rw [ms_0_30]; exact (mO dA ad).2 σ 0 _ (by decide)) d kk
theorem gx_X2_57_0 (F : FX l R D dA (mwf dA ad) cc nL RX2 G) (d : decode cc pc = .ok (.getfield 57, 3)) (kk : G σ (pc + 3) lv (.ref (ad 16) :: st)) : G σ pc lv (.ref (ad 0) :: st) := jw_get F in_X2 (mh_0 dA ad σ) rfl 31 (by decide) q869 rfl rfl d kk
theorem gx_X2_60_0 (F : FX l R D dA (mwf dA ad) cc nL RX2 G) (d : decode cc pc = .ok (.getfield 60, 3)) (kk : G σ (pc + 3) lv (.ref (ad 17) :: st)) : G σ pc lv (.ref (ad 0) :: st) := jw_get F in_X2 (mh_0 dA ad σ) rfl 32 (by decide) q870 rfl rfl d kk
theorem gx_X2_248_0 (F : FX l R D dA (mwf dA ad) cc nL RX2 G) (d : decode cc pc = .ok (.getfield 248, 3)) (kk : G σ (pc + 3) lv (.long (lI (σ 0 33)) :: st)) : G σ pc lv (.ref (ad 0) :: st) := jw_get F in_X2 (mh_0 dA ad σ) rfl 33 (by decide) q871 rfl rfl d kk
theorem pgx_X2_248_0 (F : FX l R D dA (mwf dA ad) cc nL RX2 G) (d : decode cc pc = .ok (.putfield 248, 3)) (kk : G (up σ 0 33 z) (pc + 3) lv st) : G σ pc lv (.long (lI z) :: .ref (ad 0) :: st) := jw_put F in_X2 tyX2_ok nmX2 (mh_0 dA ad σ) rfl 33 (by decide) q871 rfl rfl rfl rfl (Nat.le_of_ble_eq_true rfl) (by rw [ms_0_33]; exact (mO dA ad).2 σ 0 _ (by decide)) d kk
end GX
