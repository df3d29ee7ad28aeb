/-! PLAIN LAWS, 23: bits -/
def popN : Nat → Nat → Nat
  | 0, _ => 0
  | k + 1, v => popN k v + v / 2 ^ k % 2
def bc_dec (v k : Int) : Decidable (wp_J10_bitCount v (fun r => r = k)) := by
  delta wp_J10_bitCount
  infer_instance
theorem bc_0 : (List.range 4096).all (fun v => @decide _ (bc_dec (v : Nat) (popN 12 v : Nat))) = true := by decide +kernel
theorem bc_w {v : Int} {Q : Int → Prop} {k : Int} (h : wp_J10_bitCount v (fun r => r = k)) (hQ : Q k) : wp_J10_bitCount v Q := by
  unfold wp_J10_bitCount at h ⊢
  obtain ⟨a1, a2, a3, a4, a5, a6, a7, a8, a9, b1, b2, b3, b4, b5, b6, h⟩ := h
  rw [h]
  exact ⟨a1, a2, a3, a4, a5, a6, a7, a8, a9, b1, b2, b3, b4, b5, b6, hQ⟩
