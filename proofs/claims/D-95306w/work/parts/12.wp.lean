/-! WHAT EACH METHOD NEEDS AND DOES, as predicates over whole numbers (printed by gen/walk.py) -/
def wp_J10_bitCount (a1 : Int) (Q : Int → Prop) : Prop :=
  (0 ≤ a1) ∧ (Rg a1) ∧ (0 ≤ (a1 / 2 ^ (1 : Int).toNat)) ∧ (0 ≤ (a1 - (band (a1 / 2 ^ (1 : Int).toNat) 1431655765))) ∧ (0 ≤ (a1 - (band (a1 / 2 ^ (1 : Int).toNat) 1431655765))) ∧ (Rg (a1 - (band (a1 / 2 ^ (1 : Int).toNat) 1431655765))) ∧ (0 ≤ ((a1 - (band (a1 / 2 ^ (1 : Int).toNat) 1431655765)) / 2 ^ (2 : Int).toNat)) ∧ (0 ≤ ((band (a1 - (band (a1 / 2 ^ (1 : Int).toNat) 1431655765)) 858993459) + (band ((a1 - (band (a1 / 2 ^ (1 : Int).toNat) 1431655765)) / 2 ^ (2 : Int).toNat) 858993459))) ∧ (Rg ((band (a1 - (band (a1 / 2 ^ (1 : Int).toNat) 1431655765)) 858993459) + (band ((a1 - (band (a1 / 2 ^ (1 : Int).toNat) 1431655765)) / 2 ^ (2 : Int).toNat) 858993459))) ∧ (0 ≤ (((band (a1 - (band (a1 / 2 ^ (1 : Int).toNat) 1431655765)) 858993459) + (band ((a1 - (band (a1 / 2 ^ (1 : Int).toNat) 1431655765)) / 2 ^ (2 : Int).toNat) 858993459)) + (((band (a1 - (band (a1 / 2 ^ (1 : Int).toNat) 1431655765)) 858993459) + (band ((a1 - (band (a1 / 2 ^ (1 : Int).toNat) 1431655765)) / 2 ^ (2 : Int).toNat) 858993459)) / 2 ^ (4 : Int).toNat))) ∧ (0 ≤ (band (((band (a1 - (band (a1 / 2 ^ (1 : Int).toNat) 1431655765)) 858993459) + (band ((a1 - (band (a1 / 2 ^ (1 : Int).toNat) 1431655765)) / 2 ^ (2 : Int).toNat) 858993459)) + (((band (a1 - (band (a1 / 2 ^ (1 : Int).toNat) 1431655765)) 858993459) + (band ((a1 - (band (a1 / 2 ^ (1 : Int).toNat) 1431655765)) / 2 ^ (2 : Int).toNat) 858993459)) / 2 ^ (4 : Int).toNat)) 252645135)) ∧ (Rg (band (((band (a1 - (band (a1 / 2 ^ (1 : Int).toNat) 1431655765)) 858993459) + (band ((a1 - (band (a1 / 2 ^ (1 : Int).toNat) 1431655765)) / 2 ^ (2 : Int).toNat) 858993459)) + (((band (a1 - (band (a1 / 2 ^ (1 : Int).toNat) 1431655765)) 858993459) + (band ((a1 - (band (a1 / 2 ^ (1 : Int).toNat) 1431655765)) / 2 ^ (2 : Int).toNat) 858993459)) / 2 ^ (4 : Int).toNat)) 252645135)) ∧ (0 ≤ ((band (((band (a1 - (band (a1 / 2 ^ (1 : Int).toNat) 1431655765)) 858993459) + (band ((a1 - (band (a1 / 2 ^ (1 : Int).toNat) 1431655765)) / 2 ^ (2 : Int).toNat) 858993459)) + (((band (a1 - (band (a1 / 2 ^ (1 : Int).toNat) 1431655765)) 858993459) + (band ((a1 - (band (a1 / 2 ^ (1 : Int).toNat) 1431655765)) / 2 ^ (2 : Int).toNat) 858993459)) / 2 ^ (4 : Int).toNat)) 252645135) + ((band (((band (a1 - (band (a1 / 2 ^ (1 : Int).toNat) 1431655765)) 858993459) + (band ((a1 - (band (a1 / 2 ^ (1 : Int).toNat) 1431655765)) / 2 ^ (2 : Int).toNat) 858993459)) + (((band (a1 - (band (a1 / 2 ^ (1 : Int).toNat) 1431655765)) 858993459) + (band ((a1 - (band (a1 / 2 ^ (1 : Int).toNat) 1431655765)) / 2 ^ (2 : Int).toNat) 858993459)) / 2 ^ (4 : Int).toNat)) 252645135) / 2 ^ (8 : Int).toNat))) ∧ (Rg ((band (((band (a1 - (band (a1 / 2 ^ (1 : Int).toNat) 1431655765)) 858993459) + (band ((a1 - (band (a1 / 2 ^ (1 : Int).toNat) 1431655765)) / 2 ^ (2 : Int).toNat) 858993459)) + (((band (a1 - (band (a1 / 2 ^ (1 : Int).toNat) 1431655765)) 858993459) + (band ((a1 - (band (a1 / 2 ^ (1 : Int).toNat) 1431655765)) / 2 ^ (2 : Int).toNat) 858993459)) / 2 ^ (4 : Int).toNat)) 252645135) + ((band (((band (a1 - (band (a1 / 2 ^ (1 : Int).toNat) 1431655765)) 858993459) + (band ((a1 - (band (a1 / 2 ^ (1 : Int).toNat) 1431655765)) / 2 ^ (2 : Int).toNat) 858993459)) + (((band (a1 - (band (a1 / 2 ^ (1 : Int).toNat) 1431655765)) 858993459) + (band ((a1 - (band (a1 / 2 ^ (1 : Int).toNat) 1431655765)) / 2 ^ (2 : Int).toNat) 858993459)) / 2 ^ (4 : Int).toNat)) 252645135) / 2 ^ (8 : Int).toNat))) ∧ (0 ≤ (((band (((band (a1 - (band (a1 / 2 ^ (1 : Int).toNat) 1431655765)) 858993459) + (band ((a1 - (band (a1 / 2 ^ (1 : Int).toNat) 1431655765)) / 2 ^ (2 : Int).toNat) 858993459)) + (((band (a1 - (band (a1 / 2 ^ (1 : Int).toNat) 1431655765)) 858993459) + (band ((a1 - (band (a1 / 2 ^ (1 : Int).toNat) 1431655765)) / 2 ^ (2 : Int).toNat) 858993459)) / 2 ^ (4 : Int).toNat)) 252645135) + ((band (((band (a1 - (band (a1 / 2 ^ (1 : Int).toNat) 1431655765)) 858993459) + (band ((a1 - (band (a1 / 2 ^ (1 : Int).toNat) 1431655765)) / 2 ^ (2 : Int).toNat) 858993459)) + (((band (a1 - (band (a1 / 2 ^ (1 : Int).toNat) 1431655765)) 858993459) + (band ((a1 - (band (a1 / 2 ^ (1 : Int).toNat) 1431655765)) / 2 ^ (2 : Int).toNat) 858993459)) / 2 ^ (4 : Int).toNat)) 252645135) / 2 ^ (8 : Int).toNat)) + (((band (((band (a1 - (band (a1 / 2 ^ (1 : Int).toNat) 1431655765)) 858993459) + (band ((a1 - (band (a1 / 2 ^ (1 : Int).toNat) 1431655765)) / 2 ^ (2 : Int).toNat) 858993459)) + (((band (a1 - (band (a1 / 2 ^ (1 : Int).toNat) 1431655765)) 858993459) + (band ((a1 - (band (a1 / 2 ^ (1 : Int).toNat) 1431655765)) / 2 ^ (2 : Int).toNat) 858993459)) / 2 ^ (4 : Int).toNat)) 252645135) + ((band (((band (a1 - (band (a1 / 2 ^ (1 : Int).toNat) 1431655765)) 858993459) + (band ((a1 - (band (a1 / 2 ^ (1 : Int).toNat) 1431655765)) / 2 ^ (2 : Int).toNat) 858993459)) + (((band (a1 - (band (a1 / 2 ^ (1 : Int).toNat) 1431655765)) 858993459) + (band ((a1 - (band (a1 / 2 ^ (1 : Int).toNat) 1431655765)) / 2 ^ (2 : Int).toNat) 858993459)) / 2 ^ (4 : Int).toNat)) 252645135) / 2 ^ (8 : Int).toNat)) / 2 ^ (16 : Int).toNat))) ∧ Q (band (((band (((band (a1 - (band (a1 / 2 ^ (1 : Int).toNat) 1431655765)) 858993459) + (band ((a1 - (band (a1 / 2 ^ (1 : Int).toNat) 1431655765)) / 2 ^ (2 : Int).toNat) 858993459)) + (((band (a1 - (band (a1 / 2 ^ (1 : Int).toNat) 1431655765)) 858993459) + (band ((a1 - (band (a1 / 2 ^ (1 : Int).toNat) 1431655765)) / 2 ^ (2 : Int).toNat) 858993459)) / 2 ^ (4 : Int).toNat)) 252645135) + ((band (((band (a1 - (band (a1 / 2 ^ (1 : Int).toNat) 1431655765)) 858993459) + (band ((a1 - (band (a1 / 2 ^ (1 : Int).toNat) 1431655765)) / 2 ^ (2 : Int).toNat) 858993459)) + (((band (a1 - (band (a1 / 2 ^ (1 : Int).toNat) 1431655765)) 858993459) + (band ((a1 - (band (a1 / 2 ^ (1 : Int).toNat) 1431655765)) / 2 ^ (2 : Int).toNat) 858993459)) / 2 ^ (4 : Int).toNat)) 252645135) / 2 ^ (8 : Int).toNat)) + (((band (((band (a1 - (band (a1 / 2 ^ (1 : Int).toNat) 1431655765)) 858993459) + (band ((a1 - (band (a1 / 2 ^ (1 : Int).toNat) 1431655765)) / 2 ^ (2 : Int).toNat) 858993459)) + (((band (a1 - (band (a1 / 2 ^ (1 : Int).toNat) 1431655765)) 858993459) + (band ((a1 - (band (a1 / 2 ^ (1 : Int).toNat) 1431655765)) / 2 ^ (2 : Int).toNat) 858993459)) / 2 ^ (4 : Int).toNat)) 252645135) + ((band (((band (a1 - (band (a1 / 2 ^ (1 : Int).toNat) 1431655765)) 858993459) + (band ((a1 - (band (a1 / 2 ^ (1 : Int).toNat) 1431655765)) / 2 ^ (2 : Int).toNat) 858993459)) + (((band (a1 - (band (a1 / 2 ^ (1 : Int).toNat) 1431655765)) 858993459) + (band ((a1 - (band (a1 / 2 ^ (1 : Int).toNat) 1431655765)) / 2 ^ (2 : Int).toNat) 858993459)) / 2 ^ (4 : Int).toNat)) 252645135) / 2 ^ (8 : Int).toNat)) / 2 ^ (16 : Int).toNat)) 63)
def wp_J2_size (s : Sg) (Q : Int → Prop) : Prop :=
  Q (s 5000 2)
def wp_X1_has (kc kr ks kl kz : Nat) (a1 a2 : Int) (s : Sg) (Q : Int → Prop) : Prop :=
  (0 ≤ a1) ∧ (a1 < 120) ∧ (Rg (s (kr + (a1 : Int).toNat) 0)) ∧ (Rg a2) ∧ JN0 (Q 1)
 (fun K_5 =>
  (((s (kr + (a1 : Int).toNat) 0) = a2) →
   K_5) ∧
  ((¬ (s (kr + (a1 : Int).toNat) 0) = a2) →
   (0 ≤ a1) ∧ (a1 < 120) ∧ (Rg (s (kr + (a1 : Int).toNat) 1)) ∧ (Rg a2) ∧ (((s (kr + (a1 : Int).toNat) 1) = a2) →
    K_5) ∧
   ((¬ (s (kr + (a1 : Int).toNat) 1) = a2) →
    (0 ≤ a1) ∧ (a1 < 120) ∧ (Rg (s (kr + (a1 : Int).toNat) 2)) ∧ (Rg a2) ∧ ((¬ (s (kr + (a1 : Int).toNat) 2) = a2) →
     Q 0) ∧
    (((s (kr + (a1 : Int).toNat) 2) = a2) →
     K_5))))
def wp_X1_number (kc kr ks kl kz : Nat) (a1 a2 a3 : Int) (s : Sg) (Q : Int → Prop) : Prop :=
  LP1 (fun x4_1 K_2 =>
  wp_X1_has kc kr ks kl kz x4_1 a1 s (fun r_4 =>
  JN0 (K_2 (x4_1 + 1))
  (fun K_6 =>
   ((r_4 = 0) →
    K_6) ∧
   ((¬ r_4 = 0) →
    wp_X1_has kc kr ks kl kz x4_1 a2 s (fun r_8 =>
    ((r_8 = 0) →
     K_6) ∧
    ((¬ r_8 = 0) →
     wp_X1_has kc kr ks kl kz x4_1 a3 s (fun r_10 =>
     ((¬ r_10 = 0) →
      Q x4_1) ∧
     ((r_10 = 0) →
      K_6)))))))) 0
def wp_X1_sounds (kc kr ks kl kz : Nat) (a1 a2 : Int) (s : Sg) (Q : Int → Prop) : Prop :=
  (0 ≤ a1) ∧ (a1 < 120) ∧ (0 ≤ a2) ∧ (a2 < s 5000 2) ∧ (s 5000 2 ≤ 4) ∧ (lkP (s 5001 a2) (s 5002 a2) (s 5003 a2) (s (kr + (a1 : Int).toNat) 0) (s kc 0)) ∧ (0 ≤ a2) ∧ (a2 < s 5000 2) ∧ (s 5000 2 ≤ 4) ∧ (lkP (s 5001 a2) (s 5002 a2) (s 5003 a2) (s (kr + (a1 : Int).toNat) 1) (s kc 0)) ∧ (0 ≤ a2) ∧ (a2 < s 5000 2) ∧ (s 5000 2 ≤ 4) ∧ (lkP (s 5001 a2) (s 5002 a2) (s 5003 a2) (s (kr + (a1 : Int).toNat) 2) (s kc 0)) ∧ wp_X1_number kc kr ks kl kz (lkS (s 5001 a2) (s 5002 a2) (s 5003 a2) (s (kr + (a1 : Int).toNat) 0) (s kc 0)) (lkS (s 5001 a2) (s 5002 a2) (s 5003 a2) (s (kr + (a1 : Int).toNat) 1) (s kc 0)) (lkS (s 5001 a2) (s 5002 a2) (s 5003 a2) (s (kr + (a1 : Int).toNat) 2) (s kc 0)) s (fun r_15 =>
 Q r_15)
def wp_X0_spread (kc kr ks kl kz : Nat) (a2 : Int) (s : Sg) (Q : Int → Sg → Prop) : Prop :=
  (0 ≤ a2) ∧ (a2 < 120) ∧ LP3 (fun x3_3 x4_4 s_5 K_6 =>
  (Rg x4_4) ∧ (Rg x3_3) ∧ ((x3_3 ≤ x4_4) →
   Q x3_3 s_5) ∧
  ((x4_4 < x3_3) →
   LP3 (fun x3_10 x5_11 s_12 K_13 =>
    wp_J2_size s_12 (fun r_15 =>
    (Rg x5_11) ∧ (Rg r_15) ∧ ((r_15 ≤ x5_11) →
     K_6 x3_10 (x4_4 + 1) s_12) ∧
    ((x5_11 < r_15) →
     (0 ≤ x4_4) ∧ (x4_4 < 120) ∧ (0 ≤ x5_11) ∧ (x5_11 < s_12 5000 2) ∧ (s_12 5000 2 ≤ 4) ∧ wp_X1_sounds kc kr ks kl kz (s_12 4 x4_4) x5_11 s_12 (fun r_24 =>
     (0 ≤ r_24) ∧ (r_24 < 120) ∧ (Rg (s_12 ks r_24)) ∧ JN2 (fun x3_29 s_30 =>
      K_13 x3_29 (x5_11 + 1) s_30)
     (fun K_31 =>
      ((¬ (s_12 ks r_24) = (-1)) →
       K_31 x3_10 s_12) ∧
      (((s_12 ks r_24) = (-1)) →
       (0 ≤ r_24) ∧ (r_24 < 120) ∧ (0 ≤ x3_10) ∧ (x3_10 < 120) ∧ K_31 (x3_10 + 1) (up (up s_12 ks r_24 (s_12 kc 2)) 4 x3_10 r_24))))))) x3_3 0 s_5)) 1 0 (up (up s 4 0 a2) ks a2 ((up s 4 0 a2) kc 2))
def wp_X0_join (kc kr ks kl kz : Nat) (s : Sg) (Q : Sg → Prop) : Prop :=
  LP2 (fun x2_1 s_2 K_3 =>
  (Rg x2_1) ∧ (Rg (s_2 kc 1)) ∧ (((s_2 kc 1) ≤ x2_1) →
   LP2 (fun x2_7 s_8 K_9 =>
    (Rg x2_7) ∧ (Rg (s_8 kc 1)) ∧ (((s_8 kc 1) ≤ x2_7) →
     Q s_8) ∧
    ((x2_7 < (s_8 kc 1)) →
     (0 ≤ x2_7) ∧ (x2_7 < 120) ∧ (Rg (s_8 ks x2_7)) ∧ JN1 (fun s_16 =>
      K_9 (x2_7 + 1) s_16)
     (fun K_17 =>
      ((¬ (s_8 ks x2_7) = (-1)) →
       K_17 s_8) ∧
      (((s_8 ks x2_7) = (-1)) →
       (0 ≤ (s_8 kc 2)) ∧ ((s_8 kc 2) < 120) ∧ wp_X0_spread kc kr ks kl kz x2_7 (up s_8 kl (s_8 kc 2) x2_7) (fun r_21 s_22 =>
       (0 ≤ ((up s_8 kl (s_8 kc 2) x2_7) kc 2)) ∧ (((up s_8 kl (s_8 kc 2) x2_7) kc 2) < 120) ∧ K_17 (up (up s_22 kz ((up s_8 kl (s_8 kc 2) x2_7) kc 2) r_21) kc 2 (((up s_22 kz ((up s_8 kl (s_8 kc 2) x2_7) kc 2) r_21) kc 2) + 1))))))) 0 s_2) ∧
  ((x2_1 < (s_2 kc 1)) →
   (0 ≤ x2_1) ∧ (x2_1 < 120) ∧ K_3 (x2_1 + 1) (up s_2 ks x2_1 (-1)))) 0 (up s kc 2 0)
def wp_X0_letters (a1 : Int) (s : Sg) (Q : Int → Sg → Prop) : Prop :=
  LP3 (fun x3_1 x4_2 x5_3 K_4 =>
  (Rg x5_3) ∧ ((8 ≤ x5_3) →
   (Rg ((s 0 3) + x3_1)) ∧ ((((s 0 3) + x3_1) ≤ 20) →
    LP2 (fun x5_8 s_9 K_10 =>
     (Rg x5_8) ∧ (Rg x3_1) ∧ ((x3_1 ≤ x5_8) →
      Q ((up s_9 0 3 ((s_9 0 3) + x3_1)) 0 3) (up s_9 0 3 ((s_9 0 3) + x3_1))) ∧
     ((x5_8 < x3_1) →
      (RgL a1) ∧ (0 ≤ (8 * x5_8)) ∧ ((8 * x5_8) < 64) ∧ (0 ≤ ((s_9 0 3) + x5_8)) ∧ (((s_9 0 3) + x5_8) < 20) ∧ (0 ≤ (Int.bmod (a1 / 2 ^ ((8 * x5_8) : Int).toNat) 256)) ∧ ((Int.bmod (a1 / 2 ^ ((8 * x5_8) : Int).toNat) 256) ≤ 127) ∧ K_10 (x5_8 + 1) (up s_9 3 ((s_9 0 3) + x5_8) (Int.bmod (a1 / 2 ^ ((8 * x5_8) : Int).toNat) 256)))) 0 s) ∧
   ((20 < ((s 0 3) + x3_1)) →
    Q (-104) s)) ∧
  ((x5_3 < 8) →
   (RgL a1) ∧ (0 ≤ (8 * x5_3)) ∧ ((8 * x5_3) < 64) ∧ (Rg ((a1 / 2 ^ ((8 * x5_3) : Int).toNat) % 2 ^ 8)) ∧ ((126 < ((a1 / 2 ^ ((8 * x5_3) : Int).toNat) % 2 ^ 8)) →
    Q (-102) s) ∧
   ((((a1 / 2 ^ ((8 * x5_3) : Int).toNat) % 2 ^ 8) ≤ 126) →
    (Rg x4_2) ∧ JN0 ((Rg ((a1 / 2 ^ ((8 * x5_3) : Int).toNat) % 2 ^ 8)) ∧ JN1 (fun v_29 =>
      (0 ≤ x4_2) ∧ (0 ≤ v_29) ∧ (Rg ((a1 / 2 ^ ((8 * x5_3) : Int).toNat) % 2 ^ 8)) ∧ JN1 (fun v_35 =>
       K_4 (x3_1 + v_35) (bor x4_2 v_29) (x5_3 + 1))
      (fun K_36 =>
       ((¬ ((a1 / 2 ^ ((8 * x5_3) : Int).toNat) % 2 ^ 8) = 0) →
        K_36 1) ∧
       ((((a1 / 2 ^ ((8 * x5_3) : Int).toNat) % 2 ^ 8) = 0) →
        K_36 0)))
     (fun K_30 =>
      ((¬ ((a1 / 2 ^ ((8 * x5_3) : Int).toNat) % 2 ^ 8) = 0) →
       K_30 0) ∧
      ((((a1 / 2 ^ ((8 * x5_3) : Int).toNat) % 2 ^ 8) = 0) →
       K_30 1)))
    (fun K_26 =>
     ((x4_2 = 0) →
      K_26) ∧
     ((¬ x4_2 = 0) →
      (Rg ((a1 / 2 ^ ((8 * x5_3) : Int).toNat) % 2 ^ 8)) ∧ ((((a1 / 2 ^ ((8 * x5_3) : Int).toNat) % 2 ^ 8) = 0) →
       K_26) ∧
      ((¬ ((a1 / 2 ^ ((8 * x5_3) : Int).toNat) % 2 ^ 8) = 0) →
       Q (-102) s)))))) 0 0 0
def wp_X0_blank (s : Sg) (Q : Int → Sg → Prop) : Prop :=
  Q (s 0 3) (up s 0 3 0)
def wp_X0_in (a1 a2 a3 : Int) (Q : Int → Prop) : Prop :=
  (Rg a1) ∧ (Rg a2) ∧ ((a1 < a2) →
  Q 0) ∧
 ((a2 ≤ a1) →
  (Rg a1) ∧ (Rg a3) ∧ ((a3 < a1) →
   Q 0) ∧
  ((a1 ≤ a3) →
   Q 1))
def wp_X0_isLikeness (a1 : Int) (s : Sg) (Q : Int → Prop) : Prop :=
  wp_J2_size s (fun r_1 =>
 wp_X0_in a1 0 (r_1 - 1) (fun r_3 =>
 Q r_3))
def wp_X0_told (a1 a2 : Int) (s : Sg) (Q : Int → Prop) : Prop :=
  (Rg a2) ∧ ((¬ a2 = 0) →
  (0 ≤ a1) ∧ (a1 < s 5000 2) ∧ (s 5000 2 ≤ 4) ∧ Q (lkN (s 5001 a1) (s 5002 a1) (s 5003 a1))) ∧
 ((a2 = 0) →
  (0 ≤ a1) ∧ (a1 < s 5000 2) ∧ (s 5000 2 ≤ 4) ∧ Q (lkK (s 5001 a1)))
def wp_X0_about (a1 a2 : Int) (s : Sg) (Q : Int → Prop) : Prop :=
  wp_X0_isLikeness a1 s (fun r_1 =>
 ((¬ r_1 = 0) →
  wp_X0_in a2 0 1 (fun r_3 =>
  ((r_3 = 0) →
   Q (-102)) ∧
  ((¬ r_3 = 0) →
   (0 ≤ a1) ∧ (a1 < s 5000 2) ∧ (s 5000 2 ≤ 4) ∧ wp_X0_told a1 a2 s (fun r_8 =>
   Q r_8)))) ∧
 ((r_1 = 0) →
  Q (-101)))
def wp_X0_as (a1 a2 : Int) (s : Sg) (Q : Int → Prop) : Prop :=
  wp_X0_isLikeness a1 s (fun r_1 =>
 ((¬ r_1 = 0) →
  wp_X0_in a2 0 3 (fun r_3 =>
  ((¬ r_3 = 0) →
   (0 ≤ a1) ∧ (a1 < s 5000 2) ∧ (s 5000 2 ≤ 4) ∧ (0 ≤ a1) ∧ (a1 < s 5000 2) ∧ (s 5000 2 ≤ 4) ∧ (Rg a2) ∧ (((lkO (s 5001 a1) a2) = 0) →
    Q (-1)) ∧
   ((¬ (lkO (s 5001 a1) a2) = 0) →
    Q a1)) ∧
  ((r_3 = 0) →
   Q (-102)))) ∧
 ((r_1 = 0) →
  Q (-101)))
def wp_X0_sounds (a1 a2 : Int) (s : Sg) (Q : Int → Prop) : Prop :=
  wp_X0_isLikeness a1 s (fun r_1 =>
 ((r_1 = 0) →
  Q (-101)) ∧
 ((¬ r_1 = 0) →
  wp_X0_in a2 0 ((s 1 0) - 1) (fun r_3 =>
  ((r_3 = 0) →
   Q (-101)) ∧
  ((¬ r_3 = 0) →
   (0 ≤ a1) ∧ (a1 < s 5000 2) ∧ (s 5000 2 ≤ 4) ∧ (0 ≤ a1) ∧ (a1 < s 5000 2) ∧ (s 5000 2 ≤ 4) ∧ (lkP (s 5001 a1) (s 5002 a1) (s 5003 a1) a2 (s 1 0)) ∧ Q (lkS (s 5001 a1) (s 5002 a1) (s 5003 a1) a2 (s 1 0))))))
def wp_X1_lay (kc kr ks kl kz : Nat) (a1 : Int) (s : Sg) (Q : Sg → Prop) : Prop :=
  LP2 (fun x2_1 s_2 K_3 =>
  (Rg x2_1) ∧ (Rg a1) ∧ ((a1 ≤ x2_1) →
   Q s_2) ∧
  ((x2_1 < a1) →
   LP2 (fun x3_7 s_8 K_9 =>
    (Rg x3_7) ∧ (Rg a1) ∧ ((a1 ≤ x3_7) →
     K_3 (x2_1 + 1) s_8) ∧
    ((x3_7 < a1) →
     LP2 (fun x4_13 s_14 K_15 =>
      (Rg x4_13) ∧ (Rg a1) ∧ ((a1 ≤ x4_13) →
       K_9 (x3_7 + 1) s_14) ∧
      ((x4_13 < a1) →
       (0 ≤ (s_14 kc 1)) ∧ ((s_14 kc 1) < 120) ∧ (0 ≤ ((up s_14 (kr + ((s_14 kc 1) : Int).toNat) 0 x2_1) kc 1)) ∧ (((up s_14 (kr + ((s_14 kc 1) : Int).toNat) 0 x2_1) kc 1) < 120) ∧ (0 ≤ ((up (up s_14 (kr + ((s_14 kc 1) : Int).toNat) 0 x2_1) (kr + (((up s_14 (kr + ((s_14 kc 1) : Int).toNat) 0 x2_1) kc 1) : Int).toNat) 1 x3_7) kc 1)) ∧ (((up (up s_14 (kr + ((s_14 kc 1) : Int).toNat) 0 x2_1) (kr + (((up s_14 (kr + ((s_14 kc 1) : Int).toNat) 0 x2_1) kc 1) : Int).toNat) 1 x3_7) kc 1) < 120) ∧ K_15 (x4_13 + 1) (up (up (up (up s_14 (kr + ((s_14 kc 1) : Int).toNat) 0 x2_1) (kr + (((up s_14 (kr + ((s_14 kc 1) : Int).toNat) 0 x2_1) kc 1) : Int).toNat) 1 x3_7) (kr + (((up (up s_14 (kr + ((s_14 kc 1) : Int).toNat) 0 x2_1) (kr + (((up s_14 (kr + ((s_14 kc 1) : Int).toNat) 0 x2_1) kc 1) : Int).toNat) 1 x3_7) kc 1) : Int).toNat) 2 x4_13) kc 1 (((up (up (up s_14 (kr + ((s_14 kc 1) : Int).toNat) 0 x2_1) (kr + (((up s_14 (kr + ((s_14 kc 1) : Int).toNat) 0 x2_1) kc 1) : Int).toNat) 1 x3_7) (kr + (((up (up s_14 (kr + ((s_14 kc 1) : Int).toNat) 0 x2_1) (kr + (((up s_14 (kr + ((s_14 kc 1) : Int).toNat) 0 x2_1) kc 1) : Int).toNat) 1 x3_7) kc 1) : Int).toNat) 2 x4_13) kc 1) + 1)))) (x3_7 + 1) s_8)) (x2_1 + 1) s_2)) 0 (up (up s kc 0 a1) kc 1 0)
def wp_X0_strings (a1 : Int) (s : Sg) (Q : Int → Sg → Prop) : Prop :=
  wp_X0_in a1 3 9 (fun r_1 =>
 ((¬ r_1 = 0) →
  wp_X1_lay 1 36 19 20 21 a1 s (fun s_4 =>
  wp_X0_join 1 36 19 20 21 s_4 (fun s_6 =>
  Q ((up (up (up s_6 0 9 0) 0 14 0) 0 7 (((up (up s_6 0 9 0) 0 14 0) 0 7) + 1)) 1 1) (up (up (up s_6 0 9 0) 0 14 0) 0 7 (((up (up s_6 0 9 0) 0 14 0) 0 7) + 1))))) ∧
 ((r_1 = 0) →
  Q (-102) s))
def wp_X0_isString (a1 : Int) (s : Sg) (Q : Int → Prop) : Prop :=
  wp_X0_in a1 0 ((s 1 0) - 1) (fun r_1 =>
 Q r_1)
def wp_X0_chord (a1 a2 a3 : Int) (s : Sg) (Q : Int → Prop) : Prop :=
  wp_X0_isString a1 s (fun r_1 =>
 ((r_1 = 0) →
  Q (-101)) ∧
 ((¬ r_1 = 0) →
  wp_X0_isString a2 s (fun r_3 =>
  ((r_3 = 0) →
   Q (-101)) ∧
  ((¬ r_3 = 0) →
   wp_X0_isString a3 s (fun r_5 =>
   ((r_5 = 0) →
    Q (-101)) ∧
   ((¬ r_5 = 0) →
    (Rg a1) ∧ (Rg a2) ∧ ((a1 = a2) →
     Q (-101)) ∧
    ((¬ a1 = a2) →
     (Rg a1) ∧ (Rg a3) ∧ ((a1 = a3) →
      Q (-101)) ∧
     ((¬ a1 = a3) →
      (Rg a2) ∧ (Rg a3) ∧ ((¬ a2 = a3) →
       wp_X1_number 1 36 19 20 21 a1 a2 a3 s (fun r_13 =>
       Q r_13)) ∧
      ((a2 = a3) →
       Q (-101))))))))))
def wp_X0_isChord (a1 : Int) (s : Sg) (Q : Int → Prop) : Prop :=
  wp_X0_in a1 0 ((s 1 1) - 1) (fun r_1 =>
 Q r_1)
def wp_X0_part (a1 a2 : Int) (s : Sg) (Q : Int → Prop) : Prop :=
  wp_X0_isChord a1 s (fun r_1 =>
 ((¬ r_1 = 0) →
  wp_X0_in a2 0 3 (fun r_3 =>
  ((¬ r_3 = 0) →
   (Rg a2) ∧ ((3 ≤ a2) →
    (0 ≤ a1) ∧ (a1 < 120) ∧ Q (s 19 a1)) ∧
   ((a2 < 3) →
    (0 ≤ a1) ∧ (a1 < 120) ∧ (0 ≤ a2) ∧ (a2 < 3) ∧ Q (s (36 + (a1 : Int).toNat) a2))) ∧
  ((r_3 = 0) →
   Q (-102)))) ∧
 ((r_1 = 0) →
  Q (-101)))
def wp_X0_asWhat (a1 : Int) (s : Sg) (Q : Int → Prop) : Prop :=
  LP1 (fun x2_1 K_2 =>
  (Rg x2_1) ∧ (Rg (s 0 9)) ∧ (((s 0 9) ≤ x2_1) →
   Q (-1)) ∧
  ((x2_1 < (s 0 9)) →
   (0 ≤ x2_1) ∧ (x2_1 < 20) ∧ (0 ≤ (s 5 x2_1)) ∧ ((s 5 x2_1) < 120) ∧ (0 ≤ a1) ∧ (a1 < 120) ∧ (Rg (s 19 (s 5 x2_1))) ∧ (Rg (s 19 a1)) ∧ ((¬ (s 19 (s 5 x2_1)) = (s 19 a1)) →
    K_2 (x2_1 + 1)) ∧
   (((s 19 (s 5 x2_1)) = (s 19 a1)) →
    (0 ≤ x2_1) ∧ (x2_1 < 20) ∧ Q (s 5 x2_1)))) 0
def wp_X0_isLeft (a1 : Int) (s : Sg) (Q : Int → Prop) : Prop :=
  (0 ≤ a1) ∧ (a1 < 120) ∧ wp_X0_asWhat (s 20 a1) s (fun r_3 =>
 (Rg r_3) ∧ ((¬ r_3 = (-1)) →
  Q 0) ∧
 ((r_3 = (-1)) →
  Q 1))
def wp_X0_sortTold (a1 a2 : Int) (s : Sg) (Q : Int → Prop) : Prop :=
  (Rg a2) ∧ ((¬ a2 = 0) →
  (Rg a2) ∧ ((¬ a2 = 1) →
   wp_X0_isLeft a1 s (fun r_3 =>
   ((r_3 = 0) →
    Q 0) ∧
   ((¬ r_3 = 0) →
    Q 1))) ∧
  ((a2 = 1) →
   (0 ≤ a1) ∧ (a1 < 120) ∧ Q (s 21 a1))) ∧
 ((a2 = 0) →
  (0 ≤ a1) ∧ (a1 < 120) ∧ Q (s 20 a1))
def wp_X0_sort (a1 a2 : Int) (s : Sg) (Q : Int → Prop) : Prop :=
  wp_X0_in a1 0 ((s 1 2) - 1) (fun r_1 =>
 ((¬ r_1 = 0) →
  wp_X0_in a2 0 2 (fun r_3 =>
  ((r_3 = 0) →
   Q (-102)) ∧
  ((¬ r_3 = 0) →
   wp_X0_sortTold a1 a2 s (fun r_5 =>
   Q r_5)))) ∧
 ((r_1 = 0) →
  Q (-101)))
def wp_X0_strike (a1 : Int) (s : Sg) (Q : Int → Sg → Prop) : Prop :=
  wp_X0_isChord a1 s (fun r_1 =>
 ((¬ r_1 = 0) →
  wp_X0_asWhat a1 s (fun r_3 =>
  (Rg r_3) ∧ ((r_3 = (-1)) →
   (Rg (s 0 9)) ∧ ((¬ (s 0 9) = 20) →
    (0 ≤ (s 0 9)) ∧ ((s 0 9) < 20) ∧ Q 1 (up (up s 5 (s 0 9) a1) 0 9 (((up s 5 (s 0 9) a1) 0 9) + 1))) ∧
   (((s 0 9) = 20) →
    Q (-104) s)) ∧
  ((¬ r_3 = (-1)) →
   Q 0 s))) ∧
 ((r_1 = 0) →
  Q (-101) s))
def wp_X0_heardAs (a1 : Int) (s : Sg) (Q : Int → Prop) : Prop :=
  wp_X0_isChord a1 s (fun r_1 =>
 ((r_1 = 0) →
  Q (-101)) ∧
 ((¬ r_1 = 0) →
  wp_X0_asWhat a1 s (fun r_3 =>
  Q r_3)))
def wp_X0_forget (s : Sg) (Q : Int → Sg → Prop) : Prop :=
  Q (s 0 9) (up s 0 9 0)
def wp_X0_leftTold (a1 : Int) (s : Sg) (Q : Int → Prop) : Prop :=
  LP2 (fun x2_1 x3_2 K_3 =>
  (Rg x3_2) ∧ (Rg (s 1 2)) ∧ (((s 1 2) ≤ x3_2) →
   Q x2_1) ∧
  ((x3_2 < (s 1 2)) →
   wp_X0_isLeft x3_2 s (fun r_7 =>
   JN1 (fun v_9 =>
    K_3 (x2_1 + v_9) (x3_2 + 1))
   (fun K_10 =>
    ((¬ r_7 = 0) →
     (Rg a1) ∧ ((¬ a1 = 0) →
      (0 ≤ x3_2) ∧ (x3_2 < 120) ∧ K_10 (s 21 x3_2)) ∧
     ((a1 = 0) →
      K_10 1)) ∧
    ((r_7 = 0) →
     K_10 0))))) 0 0
def wp_X0_left (a1 : Int) (s : Sg) (Q : Int → Prop) : Prop :=
  wp_X0_in a1 0 1 (fun r_1 =>
 ((r_1 = 0) →
  Q (-102)) ∧
 ((¬ r_1 = 0) →
  wp_X0_leftTold a1 s (fun r_3 =>
  Q r_3)))
def wp_X0_nth (a1 : Int) (s : Sg) (Q : Int → Prop) : Prop :=
  wp_X0_in a1 0 83 (fun r_1 =>
 ((¬ r_1 = 0) →
  LP2 (fun x2_3 x3_4 K_5 =>
   (Rg x3_4) ∧ (Rg (s 1 1)) ∧ (((s 1 1) ≤ x3_4) →
    Q (-1)) ∧
   ((x3_4 < (s 1 1)) →
    wp_X0_asWhat x3_4 s (fun r_9 =>
    (Rg r_9) ∧ JN1 (fun x2_12 =>
     K_5 x2_12 (x3_4 + 1))
    (fun K_13 =>
     ((¬ r_9 = (-1)) →
      K_13 x2_3) ∧
     ((r_9 = (-1)) →
      (Rg x2_3) ∧ ((¬ x2_3 = 0) →
       K_13 (x2_3 + (-1))) ∧
      ((x2_3 = 0) →
       Q x3_4)))))) a1 0) ∧
 ((r_1 = 0) →
  Q (-102)))
def wp_X0_laySizes (s : Sg) (Q : Sg → Prop) : Prop :=
  LP2 (fun x1_1 s_2 K_3 =>
  (Rg x1_1) ∧ ((120 < x1_1) →
   LP2 (fun x1_6 s_7 K_8 =>
    (Rg x1_6) ∧ (Rg (s_7 1 2)) ∧ (((s_7 1 2) ≤ x1_6) →
     Q s_7) ∧
    ((x1_6 < (s_7 1 2)) →
     (0 ≤ x1_6) ∧ (x1_6 < 120) ∧ (0 ≤ (s_7 21 x1_6)) ∧ ((s_7 21 x1_6) < 121) ∧ wp_X0_isLeft x1_6 s_7 (fun r_16 =>
     JN1 (fun v_18 =>
      (0 ≤ (s_7 21 x1_6)) ∧ ((s_7 21 x1_6) < 121) ∧ K_8 (x1_6 + 1) (up s_7 6 (s_7 21 x1_6) ((s_7 6 (s_7 21 x1_6)) + v_18)))
     (fun K_19 =>
      ((r_16 = 0) →
       K_19 0) ∧
      ((¬ r_16 = 0) →
       K_19 1))))) 0 s_2) ∧
  ((x1_1 ≤ 120) →
   (0 ≤ x1_1) ∧ (x1_1 < 121) ∧ K_3 (x1_1 + 1) (up s_2 6 x1_1 0))) 0 s
def wp_X0_ways : Nat → Int → Int → Int → Sg → (Int → Sg → Prop) → Prop
  | 0, _, _, _, _, _ => False
  | d + 1, a1, a2, a3, s, Q =>
  (Rg a1) ∧ ((¬ a1 = 0) →
  (Rg a2) ∧ (Rg a1) ∧ JN2 (fun v_4 s_5 =>
   LP3 (fun x4_8 x6_9 s_10 K_11 =>
    (Rg x6_9) ∧ (Rg (s_10 1 1)) ∧ (((s_10 1 1) < x6_9) →
     Q x4_8 s_10) ∧
    ((x6_9 ≤ (s_10 1 1)) →
     (Rg a2) ∧ ((a2 ≤ 0) →
      Q x4_8 s_10) ∧
     ((0 < a2) →
      (0 ≤ x6_9) ∧ (x6_9 < 121) ∧ (Rg (s_10 6 x6_9)) ∧ JN2 (fun x4_19 s_20 =>
       K_11 x4_19 (x6_9 + 1) s_20)
      (fun K_21 =>
       (((s_10 6 x6_9) ≤ 0) →
        K_21 x4_8 s_10) ∧
       ((0 < (s_10 6 x6_9)) →
        (0 ≤ x6_9) ∧ (x6_9 < 121) ∧ (0 ≤ x6_9) ∧ (x6_9 < 121) ∧ (Rg (s_10 6 x6_9)) ∧ (Rg x6_9) ∧ wp_X0_ways d (a1 - 1) (a2 - 1) (a3 + x6_9) (up s_10 6 x6_9 ((s_10 6 x6_9) - 1)) (fun r_29 s_30 =>
        (0 ≤ x6_9) ∧ (x6_9 < 121) ∧ (0 ≤ x6_9) ∧ (x6_9 < 121) ∧ K_21 (x4_8 + (((s_10 6 x6_9) * x6_9) * r_29)) (up s_30 6 x6_9 ((s_30 6 x6_9) + 1)))))))) v_4 1 s_5)
  (fun K_6 =>
   ((a1 ≤ a2) →
    K_6 0 s) ∧
   ((a2 < a1) →
    (Rg a3) ∧ wp_X0_ways d (a1 - 1) a2 a3 s (fun r_36 s_37 =>
    K_6 (a3 * r_36) s_37)))) ∧
 ((a1 = 0) →
  (Rg a2) ∧ ((¬ a2 = 0) →
   Q 0 s) ∧
  ((a2 = 0) →
   Q 1 s))
def wp_X0_lowest (a1 a2 a3 : Int) (Q : Int → Prop) : Prop :=
  LP2 (fun x5_1 x7_2 K_3 =>
  (RgL x7_2) ∧ ((x7_2 = 0) →
   (Rg a3) ∧ ((¬ a3 = 0) →
    (RgL a2) ∧ (RgL x5_1) ∧ (0 ≤ a2) ∧ (0 < x5_1) ∧ Q (a2 / x5_1)) ∧
   ((a3 = 0) →
    (RgL a1) ∧ (RgL x5_1) ∧ (0 ≤ a1) ∧ (0 < x5_1) ∧ Q (a1 / x5_1))) ∧
  ((¬ x7_2 = 0) →
   (RgL x5_1) ∧ (RgL x7_2) ∧ (0 ≤ x5_1) ∧ (0 < x7_2) ∧ K_3 x7_2 (x5_1 % x7_2))) a1 a2
def wp_X0_strangers (a1 a2 a3 : Int) (s : Sg) (Q : Int → Sg → Prop) : Prop :=
  wp_X0_in a1 1 4 (fun r_1 =>
 ((r_1 = 0) →
  Q (-102) s) ∧
 ((¬ r_1 = 0) →
  wp_X0_in a2 0 a1 (fun r_3 =>
  ((r_3 = 0) →
   Q (-102) s) ∧
  ((¬ r_3 = 0) →
   wp_X0_in a3 0 1 (fun r_5 =>
   ((¬ r_5 = 0) →
    wp_X0_laySizes s (fun s_8 =>
    LP2 (fun x4_9 x6_10 K_11 =>
     (Rg x6_10) ∧ (Rg a1) ∧ ((a1 ≤ x6_10) →
      wp_X0_leftTold 1 s_8 (fun r_15 =>
      wp_X0_ways 5 a1 a2 ((s_8 1 1) - r_15) s_8 (fun r_17 s_18 =>
      wp_X0_lowest r_17 x4_9 a3 (fun r_19 =>
      Q r_19 s_18)))) ∧
     ((x6_10 < a1) →
      (Rg (s_8 1 1)) ∧ K_11 (x4_9 * (s_8 1 1)) (x6_10 + 1))) 1 0)) ∧
   ((r_5 = 0) →
    Q (-102) s))))))
def wp_X0_areChords (a1 a2 : Int) (s : Sg) (Q : Int → Prop) : Prop :=
  LP2 (fun x4_1 x5_2 K_3 =>
  (Rg x5_2) ∧ (Rg a1) ∧ ((a1 ≤ x5_2) →
   ((x4_1 = 0 ∨ x4_1 = 1)) ∧ Q x4_1) ∧
  ((x5_2 < a1) →
   (RgL a2) ∧ (0 ≤ (8 * x5_2)) ∧ ((8 * x5_2) < 64) ∧ wp_X0_isChord ((a2 / 2 ^ ((8 * x5_2) : Int).toNat) % 2 ^ 8) s (fun r_11 =>
   (0 ≤ x4_1) ∧ K_3 (band x4_1 r_11) (x5_2 + 1)))) 1 0
def wp_X0_doubtOf (a1 : Int) (s : Sg) (Q : Int → Prop) : Prop :=
  LP1 (fun x2_1 K_2 =>
  (Rg x2_1) ∧ (Rg (s 0 16)) ∧ (((s 0 16) ≤ x2_1) →
   Q (-1)) ∧
  ((x2_1 < (s 0 16)) →
   (0 ≤ x2_1) ∧ (x2_1 < 18) ∧ (Rg (s 10 x2_1)) ∧ (Rg a1) ∧ ((¬ (s 10 x2_1) = a1) →
    K_2 (x2_1 + 1)) ∧
   (((s 10 x2_1) = a1) →
    Q x2_1))) 0
def wp_X0_layDoubts (a1 : Int) (s : Sg) (Q : Sg → Prop) : Prop :=
  LP2 (fun x2_1 s_2 K_3 =>
  (Rg x2_1) ∧ (Rg a1) ∧ ((a1 ≤ x2_1) →
   Q s_2) ∧
  ((x2_1 < a1) →
   LP2 (fun x3_7 s_8 K_9 =>
    (0 ≤ x2_1) ∧ (x2_1 < 5) ∧ (Rg x3_7) ∧ (Rg (s_8 8 x2_1)) ∧ (((s_8 8 x2_1) ≤ x3_7) →
     K_3 (x2_1 + 1) s_8) ∧
    ((x3_7 < (s_8 8 x2_1)) →
     (0 ≤ x2_1) ∧ (x2_1 < 5) ∧ (0 ≤ x3_7) ∧ (x3_7 < 6) ∧ (0 ≤ (s_8 (26 + (x2_1 : Int).toNat) x3_7)) ∧ ((s_8 (26 + (x2_1 : Int).toNat) x3_7) < 120) ∧ wp_X0_doubtOf (s_8 19 (s_8 (26 + (x2_1 : Int).toNat) x3_7)) s_8 (fun r_21 =>
     (Rg r_21) ∧ JN1 (fun s_24 =>
      K_9 (x3_7 + 1) s_24)
     (fun K_25 =>
      ((¬ r_21 = (-1)) →
       K_25 s_8) ∧
      ((r_21 = (-1)) →
       (0 ≤ (s_8 0 16)) ∧ ((s_8 0 16) < 18) ∧ K_25 (up (up s_8 10 (s_8 0 16) (s_8 19 (s_8 (26 + (x2_1 : Int).toNat) x3_7))) 0 16 (((up s_8 10 (s_8 0 16) (s_8 19 (s_8 (26 + (x2_1 : Int).toNat) x3_7))) 0 16) + 1))))))) 0 s_2)) 0 (up s 0 16 0)
def wp_X0_sheet (a1 a2 a3 : Int) (s : Sg) (Q : Int → Sg → Prop) : Prop :=
  wp_X0_in a1 1 6 (fun r_1 =>
 ((r_1 = 0) →
  Q (-102) s) ∧
 ((¬ r_1 = 0) →
  wp_X0_in a3 0 6 (fun r_3 =>
  ((r_3 = 0) →
   Q (-102) s) ∧
  ((¬ r_3 = 0) →
   (0 ≤ (8 * a1)) ∧ ((8 * a1) < 64) ∧ (RgL (a2 % 18446744073709551616 / 2 ^ ((8 * a1) : Int).toNat)) ∧ (((a2 % 18446744073709551616 / 2 ^ ((8 * a1) : Int).toNat) = 0) →
    wp_X0_areChords a1 a2 s (fun r_8 =>
    ((¬ r_8 = 0) →
     (Rg (s 0 14)) ∧ ((¬ (s 0 14) = 5) →
      LP2 (fun x5_11 s_12 K_13 =>
       (Rg x5_11) ∧ (Rg a1) ∧ ((a1 ≤ x5_11) →
        (0 ≤ (s_12 0 14)) ∧ ((s_12 0 14) < 5) ∧ wp_X0_layDoubts (((up s_12 8 (s_12 0 14) a1) 0 14) + 1) (up s_12 8 (s_12 0 14) a1) (fun s_20 =>
        (Rg (s_20 0 16)) ∧ (((s_20 0 16) ≤ 12) →
         (0 ≤ (s_20 0 14)) ∧ ((s_20 0 14) < 5) ∧ Q ((up (up s_20 9 (s_20 0 14) a3) 0 14 (((up s_20 9 (s_20 0 14) a3) 0 14) + 1)) 0 14) (up (up s_20 9 (s_20 0 14) a3) 0 14 (((up s_20 9 (s_20 0 14) a3) 0 14) + 1))) ∧
        ((12 < (s_20 0 16)) →
         Q (-104) s_20))) ∧
       ((x5_11 < a1) →
        (0 ≤ (s_12 0 14)) ∧ ((s_12 0 14) < 5) ∧ (RgL a2) ∧ (0 ≤ (8 * x5_11)) ∧ ((8 * x5_11) < 64) ∧ (0 ≤ x5_11) ∧ (x5_11 < 6) ∧ K_13 (x5_11 + 1) (up s_12 (26 + ((s_12 0 14) : Int).toNat) x5_11 ((a2 / 2 ^ ((8 * x5_11) : Int).toNat) % 2 ^ 8)))) 0 s) ∧
     (((s 0 14) = 5) →
      Q (-104) s)) ∧
    ((r_8 = 0) →
     Q (-101) s))) ∧
   ((¬ (a2 % 18446744073709551616 / 2 ^ ((8 * a1) : Int).toNat) = 0) →
    Q (-102) s)))))
def wp_X0_surely (s : Sg) (Q : Int → Prop) : Prop :=
  LP2 (fun x1_1 x2_2 K_3 =>
  (Rg x2_2) ∧ (Rg (s 0 16)) ∧ (((s 0 16) ≤ x2_2) →
   Q x1_1) ∧
  ((x2_2 < (s 0 16)) →
   (0 ≤ x2_2) ∧ (x2_2 < 18) ∧ wp_X0_isLeft (s 10 x2_2) s (fun r_9 =>
   JN1 (fun v_11 =>
    (0 ≤ x1_1) ∧ (0 ≤ v_11) ∧ K_3 (bor x1_1 v_11) (x2_2 + 1))
   (fun K_12 =>
    ((r_9 = 0) →
     (0 ≤ x2_2) ∧ (x2_2 < 32) ∧ K_12 ((1 : Int) * 2 ^ (x2_2 : Int).toNat)) ∧
    ((¬ r_9 = 0) →
     K_12 0))))) 0 0
def wp_X0_isReading (a1 : Int) (s : Sg) (Q : Int → Prop) : Prop :=
  LP2 (fun x2_1 x3_2 K_3 =>
  (Rg x3_2) ∧ (Rg (s 0 14)) ∧ (((s 0 14) ≤ x3_2) →
   ((x2_1 = 0 ∨ x2_1 = 1)) ∧ Q x2_1) ∧
  ((x3_2 < (s 0 14)) →
   (0 ≤ x3_2) ∧ (x3_2 < 5) ∧ (0 ≤ a1) ∧ (0 ≤ (s 11 x3_2)) ∧ wp_J10_bitCount (band a1 (s 11 x3_2)) (fun r_12 =>
   (0 ≤ x3_2) ∧ (x3_2 < 5) ∧ (Rg r_12) ∧ (Rg (s 9 x3_2)) ∧ JN1 (fun v_18 =>
    (0 ≤ x2_1) ∧ (0 ≤ v_18) ∧ K_3 (band x2_1 v_18) (x3_2 + 1))
   (fun K_19 =>
    ((¬ r_12 = (s 9 x3_2)) →
     K_19 0) ∧
    ((r_12 = (s 9 x3_2)) →
     K_19 1))))) 1 0
def wp_X0_isIn (a1 a2 : Int) (Q : Int → Prop) : Prop :=
  (Rg a1) ∧ (0 ≤ a2) ∧ (a2 < 32) ∧ (0 ≤ (a1 / 2 ^ (a2 : Int).toNat)) ∧ (Rg (band (a1 / 2 ^ (a2 : Int).toNat) 1)) ∧ ((¬ (band (a1 / 2 ^ (a2 : Int).toNat) 1) = 1) →
  Q 0) ∧
 (((band (a1 / 2 ^ (a2 : Int).toNat) 1) = 1) →
  Q 1)
def wp_X0_bitsOf (a1 : Int) (s : Sg) (Q : Int → Prop) : Prop :=
  LP2 (fun x2_1 x3_2 K_3 =>
  (0 ≤ a1) ∧ (a1 < 5) ∧ (Rg x3_2) ∧ (Rg (s 8 a1)) ∧ (((s 8 a1) ≤ x3_2) →
   Q x2_1) ∧
  ((x3_2 < (s 8 a1)) →
   (0 ≤ a1) ∧ (a1 < 5) ∧ (0 ≤ x3_2) ∧ (x3_2 < 6) ∧ (0 ≤ (s (26 + (a1 : Int).toNat) x3_2)) ∧ ((s (26 + (a1 : Int).toNat) x3_2) < 120) ∧ wp_X0_doubtOf (s 19 (s (26 + (a1 : Int).toNat) x3_2)) s (fun r_15 =>
   (0 ≤ r_15) ∧ (r_15 < 32) ∧ (0 ≤ x2_1) ∧ (0 ≤ ((1 : Int) * 2 ^ (r_15 : Int).toNat)) ∧ K_3 (bor x2_1 ((1 : Int) * 2 ^ (r_15 : Int).toNat)) (x3_2 + 1)))) 0 0
def wp_X0_layReadings (s : Sg) (Q : Int → Sg → Prop) : Prop :=
  wp_X0_layDoubts (s 0 14) s (fun s_2 =>
 LP2 (fun x1_3 s_4 K_5 =>
  (Rg x1_3) ∧ (Rg (s_4 0 14)) ∧ (((s_4 0 14) ≤ x1_3) →
   LP2 (fun x1_9 s_10 K_11 =>
    (Rg x1_9) ∧ ((12 ≤ x1_9) →
     wp_X0_surely s_10 (fun r_14 =>
     LP3 (fun x2_16 x3_17 s_18 K_19 =>
      (0 ≤ (s_18 0 16)) ∧ ((s_18 0 16) < 32) ∧ (Rg x3_17) ∧ (Rg ((1 : Int) * 2 ^ ((s_18 0 16) : Int).toNat)) ∧ ((((1 : Int) * 2 ^ ((s_18 0 16) : Int).toNat) ≤ x3_17) →
       Q x2_16 s_18) ∧
      ((x3_17 < ((1 : Int) * 2 ^ ((s_18 0 16) : Int).toNat)) →
       (0 ≤ x3_17) ∧ (0 ≤ r_14) ∧ (Rg (band x3_17 r_14)) ∧ (Rg r_14) ∧ JN2 (fun x2_29 s_30 =>
        K_19 x2_29 (x3_17 + 1) s_30)
       (fun K_31 =>
        ((¬ (band x3_17 r_14) = r_14) →
         K_31 x2_16 s_18) ∧
        (((band x3_17 r_14) = r_14) →
         wp_X0_isReading x3_17 s_18 (fun r_33 =>
         ((r_33 = 0) →
          K_31 x2_16 s_18) ∧
         ((¬ r_33 = 0) →
          LP2 (fun x4_35 s_36 K_37 =>
           (Rg x4_35) ∧ (Rg (s_36 0 16)) ∧ (((s_36 0 16) ≤ x4_35) →
            K_31 (x2_16 + 1) s_36) ∧
           ((x4_35 < (s_36 0 16)) →
            (0 ≤ x4_35) ∧ (x4_35 < 12) ∧ wp_X0_isIn x3_17 x4_35 (fun r_43 =>
            JN1 (fun v_45 =>
             (0 ≤ x4_35) ∧ (x4_35 < 12) ∧ K_37 (x4_35 + 1) (up s_36 12 x4_35 ((s_36 12 x4_35) + v_45)))
            (fun K_46 =>
             ((r_43 = 0) →
              K_46 1) ∧
             ((¬ r_43 = 0) →
              K_46 0))))) 0 s_18)))))) 0 0 s_10)) ∧
    ((x1_9 < 12) →
     (0 ≤ x1_9) ∧ (x1_9 < 12) ∧ K_11 (x1_9 + 1) (up s_10 12 x1_9 0))) 0 s_4) ∧
  ((x1_3 < (s_4 0 14)) →
   wp_X0_bitsOf x1_3 s_4 (fun r_52 =>
   (0 ≤ x1_3) ∧ (x1_3 < 5) ∧ K_5 (x1_3 + 1) (up s_4 11 x1_3 r_52)))) 0 s_2)
def wp_X0_readings (s : Sg) (Q : Int → Sg → Prop) : Prop :=
  wp_X0_layReadings s (fun r_1 s_2 =>
 Q r_1 s_2)
def wp_X0_sureBy (a1 a2 : Int) (s : Sg) (Q : Int → Prop) : Prop :=
  (0 ≤ a1) ∧ (a1 < 120) ∧ wp_X0_doubtOf (s 19 a1) s (fun r_3 =>
 (Rg r_3) ∧ ((r_3 = (-1)) →
  wp_X0_asWhat a1 s (fun r_6 =>
  (Rg r_6) ∧ ((¬ r_6 = (-1)) →
   Q 0) ∧
  ((r_6 = (-1)) →
   Q a2))) ∧
 ((¬ r_3 = (-1)) →
  (0 ≤ r_3) ∧ (r_3 < 12) ∧ Q (s 12 r_3)))
def wp_X0_sure (a1 : Int) (s : Sg) (Q : Int → Sg → Prop) : Prop :=
  wp_X0_isChord a1 s (fun r_1 =>
 ((r_1 = 0) →
  Q (-101) s) ∧
 ((¬ r_1 = 0) →
  wp_X0_layReadings s (fun r_3 s_4 =>
  wp_X0_sureBy a1 r_3 s_4 (fun r_5 =>
  Q r_5 s_4))))
def wp_X0_surestTold (s : Sg) (Q : Int → Sg → Prop) : Prop :=
  wp_X0_layReadings s (fun r_1 s_2 =>
 LP2 (fun x2_3 x3_4 K_5 =>
  (Rg x3_4) ∧ (Rg (s_2 1 1)) ∧ (((s_2 1 1) ≤ x3_4) →
   (Rg r_1) ∧ ((¬ r_1 = 0) →
    Q x2_3 s_2) ∧
   ((r_1 = 0) →
    Q (-1) s_2)) ∧
  ((x3_4 < (s_2 1 1)) →
   wp_X0_sureBy x3_4 r_1 s_2 (fun r_10 =>
   wp_X0_sureBy x2_3 r_1 s_2 (fun r_12 =>
   (Rg r_10) ∧ (Rg r_12) ∧ JN1 (fun v_16 =>
    K_5 v_16 (x3_4 + 1))
   (fun K_17 =>
    ((r_10 ≤ r_12) →
     K_17 x2_3) ∧
    ((r_12 < r_10) →
     K_17 x3_4)))))) 0 1)
def wp_X0_surest (s : Sg) (Q : Int → Sg → Prop) : Prop :=
  wp_X0_surestTold s (fun r_1 s_2 =>
 Q r_1 s_2)
def wp_X0_mayAsk (s : Sg) (Q : Int → Prop) : Prop :=
  (Rg (s 1 2)) ∧ ((10 < (s 1 2)) →
  Q 0) ∧
 (((s 1 2) ≤ 10) →
  (Rg (s 0 19)) ∧ ((30 ≤ (s 0 19)) →
   Q 0) ∧
  (((s 0 19) < 30) →
   Q 1))
def wp_X0_heardSorts (s : Sg) (Q : Int → Prop) : Prop :=
  LP2 (fun x1_1 x2_2 K_3 =>
  (Rg x2_2) ∧ (Rg (s 1 2)) ∧ (((s 1 2) ≤ x2_2) →
   Q x1_1) ∧
  ((x2_2 < (s 1 2)) →
   wp_X0_isLeft x2_2 s (fun r_7 =>
   JN1 (fun v_9 =>
    (0 ≤ x1_1) ∧ (0 ≤ v_9) ∧ K_3 (bor x1_1 v_9) (x2_2 + 1))
   (fun K_10 =>
    ((r_7 = 0) →
     (0 ≤ x2_2) ∧ (x2_2 < 32) ∧ K_10 ((1 : Int) * 2 ^ (x2_2 : Int).toNat)) ∧
    ((¬ r_7 = 0) →
     K_10 0))))) 0 0
def wp_X1_common (kc kr ks kl kz : Nat) (a1 a2 : Int) (s : Sg) (Q : Int → Prop) : Prop :=
  LP2 (fun x3_1 x4_2 K_3 =>
  (Rg x4_2) ∧ ((3 ≤ x4_2) →
   Q x3_1) ∧
  ((x4_2 < 3) →
   (0 ≤ a1) ∧ (a1 < 120) ∧ (0 ≤ x4_2) ∧ (x4_2 < 3) ∧ wp_X1_has kc kr ks kl kz a2 (s (kr + (a1 : Int).toNat) x4_2) s (fun r_10 =>
   JN1 (fun v_12 =>
    K_3 (x3_1 + v_12) (x4_2 + 1))
   (fun K_13 =>
    ((r_10 = 0) →
     K_13 0) ∧
    ((¬ r_10 = 0) →
     K_13 1))))) 0 0
def wp_X0_comesBehind (a1 a2 : Int) (s : Sg) (Q : Int → Prop) : Prop :=
  LP1 (fun x3_1 K_2 =>
  (Rg x3_1) ∧ (Rg (s 1 1)) ∧ (((s 1 1) ≤ x3_1) →
   Q 0) ∧
  ((x3_1 < (s 1 1)) →
   (0 ≤ a1) ∧ (a1 < 1024) ∧ (0 ≤ x3_1) ∧ (x3_1 < 84) ∧ (Rg (s (276 + (a1 : Int).toNat) x3_1)) ∧ JN0 (K_2 (x3_1 + 1))
   (fun K_11 =>
    (((s (276 + (a1 : Int).toNat) x3_1) = 0) →
     K_11) ∧
    ((¬ (s (276 + (a1 : Int).toNat) x3_1) = 0) →
     wp_X1_common 1 36 19 20 21 x3_1 a2 s (fun r_13 =>
     (Rg r_13) ∧ ((¬ r_13 = 2) →
      K_11) ∧
     ((r_13 = 2) →
      Q 1)))))) 0
def wp_X0_longestOf (s : Sg) (Q : Int → Sg → Prop) : Prop :=
  wp_X0_heardSorts s (fun r_1 =>
 LP3 (fun x2_3 x3_4 s_5 K_6 =>
  (0 ≤ (s_5 1 2)) ∧ ((s_5 1 2) < 32) ∧ (Rg x3_4) ∧ (Rg ((1 : Int) * 2 ^ ((s_5 1 2) : Int).toNat)) ∧ ((((1 : Int) * 2 ^ ((s_5 1 2) : Int).toNat) ≤ x3_4) →
   Q x2_3 s_5) ∧
  ((x3_4 < ((1 : Int) * 2 ^ ((s_5 1 2) : Int).toNat)) →
   LP3 (fun x2_12 x4_13 s_14 K_15 =>
    (Rg x4_13) ∧ (Rg (s_14 1 1)) ∧ (((s_14 1 1) ≤ x4_13) →
     K_6 x2_12 (x3_4 + 1) s_14) ∧
    ((x4_13 < (s_14 1 1)) →
     (0 ≤ x4_13) ∧ (x4_13 < 120) ∧ (0 ≤ (s_14 19 x4_13)) ∧ ((s_14 19 x4_13) < 32) ∧ (0 ≤ x3_4) ∧ (0 ≤ ((1 : Int) * 2 ^ ((s_14 19 x4_13) : Int).toNat)) ∧ (0 ≤ x4_13) ∧ (x4_13 < 120) ∧ wp_X0_isIn x3_4 (s_14 19 x4_13) (fun r_27 =>
     JN1 (fun v_29 =>
      (0 ≤ x3_4) ∧ (x3_4 < 1024) ∧ (Rg v_29) ∧ JN1 (fun v_35 =>
       (0 ≤ x4_13) ∧ (x4_13 < 84) ∧ ((v_35 = 0 ∨ v_35 = 1)) ∧ (0 ≤ x3_4) ∧ (x3_4 < 1024) ∧ (0 ≤ x4_13) ∧ (x4_13 < 84) ∧ (Rg ((up s_14 (276 + (x3_4 : Int).toNat) x4_13 v_35) (276 + (x3_4 : Int).toNat) x4_13)) ∧ JN1 (fun v_46 =>
        K_15 v_46 (x4_13 + 1) (up s_14 (276 + (x3_4 : Int).toNat) x4_13 v_35))
       (fun K_47 =>
        ((((up s_14 (276 + (x3_4 : Int).toNat) x4_13 v_35) (276 + (x3_4 : Int).toNat) x4_13) = 0) →
         K_47 x2_12) ∧
        ((¬ ((up s_14 (276 + (x3_4 : Int).toNat) x4_13 v_35) (276 + (x3_4 : Int).toNat) x4_13) = 0) →
         wp_J10_bitCount x3_4 (fun r_49 =>
         (Rg x2_12) ∧ (Rg r_49) ∧ K_47 (imax x2_12 r_49)))))
      (fun K_36 =>
       JN0 (K_36 0)
       (fun K_53 =>
        ((v_29 = 0) →
         K_53) ∧
        ((¬ v_29 = 0) →
         (Rg (bxor x3_4 ((1 : Int) * 2 ^ ((s_14 19 x4_13) : Int).toNat))) ∧ JN0 (K_36 1)
         (fun K_56 =>
          (((bxor x3_4 ((1 : Int) * 2 ^ ((s_14 19 x4_13) : Int).toNat)) = 0) →
           K_56) ∧
          ((¬ (bxor x3_4 ((1 : Int) * 2 ^ ((s_14 19 x4_13) : Int).toNat)) = 0) →
           wp_X0_comesBehind (bxor x3_4 ((1 : Int) * 2 ^ ((s_14 19 x4_13) : Int).toNat)) x4_13 s_14 (fun r_58 =>
           ((r_58 = 0) →
            K_53) ∧
           ((¬ r_58 = 0) →
            K_56))))))))
     (fun K_30 =>
      JN0 (K_30 0)
      (fun K_60 =>
       ((r_27 = 0) →
        K_60) ∧
       ((¬ r_27 = 0) →
        (0 ≤ x3_4) ∧ (0 ≤ r_1) ∧ (Rg (band x3_4 r_1)) ∧ ((¬ (band x3_4 r_1) = 0) →
         K_60) ∧
        (((band x3_4 r_1) = 0) →
         K_30 1))))))) x2_3 0 s_5)) 0 0 s)
def wp_X0_longest (s : Sg) (Q : Int → Sg → Prop) : Prop :=
  wp_X0_mayAsk s (fun r_1 =>
 ((¬ r_1 = 0) →
  wp_X0_longestOf (up s 0 19 ((s 0 19) + 1)) (fun r_3 s_4 =>
  Q r_3 s_4)) ∧
 ((r_1 = 0) →
  Q (-103) s))
def wp_X0_winsBy (a1 a2 a3 : Int) (s : Sg) (Q : Int → Prop) : Prop :=
  LP1 (fun x4_1 K_2 =>
  (Rg x4_1) ∧ (Rg (s 1 1)) ∧ (((s 1 1) ≤ x4_1) →
   Q (-1)) ∧
  ((x4_1 < (s 1 1)) →
   (0 ≤ x4_1) ∧ (x4_1 < 120) ∧ wp_X0_isIn a1 (s 19 x4_1) (fun r_8 =>
   JN1 (fun v_10 =>
    (Rg v_10) ∧ JN0 (K_2 (x4_1 + 1))
    (fun K_14 =>
     ((v_10 = 0) →
      K_14) ∧
     ((¬ v_10 = 0) →
      (0 ≤ x4_1) ∧ (x4_1 < 120) ∧ (0 ≤ (s 19 x4_1)) ∧ ((s 19 x4_1) < 32) ∧ (0 ≤ a1) ∧ (0 ≤ ((1 : Int) * 2 ^ ((s 19 x4_1) : Int).toNat)) ∧ (0 ≤ (bor a1 ((1 : Int) * 2 ^ ((s 19 x4_1) : Int).toNat))) ∧ ((bor a1 ((1 : Int) * 2 ^ ((s 19 x4_1) : Int).toNat)) < 1024) ∧ (0 ≤ x4_1) ∧ (x4_1 < 84) ∧ (Rg (s (276 + ((bor a1 ((1 : Int) * 2 ^ ((s 19 x4_1) : Int).toNat)) : Int).toNat) x4_1)) ∧ ((¬ (s (276 + ((bor a1 ((1 : Int) * 2 ^ ((s 19 x4_1) : Int).toNat)) : Int).toNat) x4_1) = 0) →
       K_14) ∧
      (((s (276 + ((bor a1 ((1 : Int) * 2 ^ ((s 19 x4_1) : Int).toNat)) : Int).toNat) x4_1) = 0) →
       Q x4_1))))
   (fun K_11 =>
    JN0 (K_11 0)
    (fun K_27 =>
     ((¬ r_8 = 0) →
      K_27) ∧
     ((r_8 = 0) →
      (Rg a2) ∧ JN0 (K_11 1)
      (fun K_30 =>
       ((a2 = (-1)) →
        K_30) ∧
       ((¬ a2 = (-1)) →
        wp_X1_common 1 36 19 20 21 a2 x4_1 s (fun r_32 =>
        (Rg r_32) ∧ (Rg a3) ∧ ((¬ r_32 = a3) →
         K_27) ∧
        ((r_32 = a3) →
         K_30)))))))))) 0
def wp_X0_gameOf (a1 : Int) (s : Sg) (Q : Int → Sg → Prop) : Prop :=
  (0 ≤ (s 1 2)) ∧ ((s 1 2) < 32) ∧ LP2 (fun x2_3 s_4 K_5 =>
  (Rg x2_3) ∧ ((x2_3 < 0) →
   wp_X0_heardSorts s_4 (fun r_8 =>
   wp_X0_winsBy r_8 (-1) a1 s_4 (fun r_10 =>
   Q r_10 s_4))) ∧
  ((0 ≤ x2_3) →
   LP2 (fun x3_12 s_13 K_14 =>
    (Rg x3_12) ∧ (Rg (s_13 1 1)) ∧ (((s_13 1 1) ≤ x3_12) →
     K_5 (x2_3 + (-1)) s_13) ∧
    ((x3_12 < (s_13 1 1)) →
     (0 ≤ x2_3) ∧ (x2_3 < 1024) ∧ (0 ≤ x3_12) ∧ (x3_12 < 120) ∧ wp_X0_isIn x2_3 (s_13 19 x3_12) (fun r_22 =>
     JN1 (fun v_24 =>
      (0 ≤ x3_12) ∧ (x3_12 < 84) ∧ ((v_24 = 0 ∨ v_24 = 1)) ∧ K_14 (x3_12 + 1) (up s_13 (276 + (x2_3 : Int).toNat) x3_12 v_24))
     (fun K_25 =>
      JN0 (K_25 0)
      (fun K_30 =>
       ((r_22 = 0) →
        K_30) ∧
       ((¬ r_22 = 0) →
        wp_X0_winsBy x2_3 x3_12 a1 s_13 (fun r_32 =>
        (Rg r_32) ∧ ((r_32 = (-1)) →
         K_30) ∧
        ((¬ r_32 = (-1)) →
         K_25 1)))))))) 0 s_4)) (((1 : Int) * 2 ^ ((s 1 2) : Int).toNat) - 1) s
def wp_X0_game (a1 a2 : Int) (s : Sg) (Q : Int → Sg → Prop) : Prop :=
  wp_X0_in a1 0 2 (fun r_1 =>
 ((r_1 = 0) →
  Q (-102) s) ∧
 ((¬ r_1 = 0) →
  wp_X0_in a2 0 1 (fun r_3 =>
  ((¬ r_3 = 0) →
   wp_X0_mayAsk s (fun r_5 =>
   ((¬ r_5 = 0) →
    wp_X0_gameOf a1 (up s 0 19 ((s 0 19) + 1)) (fun r_7 s_8 =>
    (Rg a2) ∧ ((¬ a2 = 1) →
     (Rg r_7) ∧ ((¬ r_7 = (-1)) →
      Q 1 s_8) ∧
     ((r_7 = (-1)) →
      Q 0 s_8)) ∧
    ((a2 = 1) →
     Q r_7 s_8))) ∧
   ((r_5 = 0) →
    Q (-103) s))) ∧
  ((r_3 = 0) →
   Q (-102) s))))
def wp_X0_brokenOf (a1 : Int) (s : Sg) (Q : Int → Prop) : Prop :=
  LP2 (fun x2_1 x3_2 K_3 =>
  (Rg x3_2) ∧ (Rg (s 1 2)) ∧ (((s 1 2) ≤ x3_2) →
   Q x2_1) ∧
  ((x3_2 < (s 1 2)) →
   LP2 (fun x4_7 x5_8 K_9 =>
    (Rg x5_8) ∧ (Rg (s 1 1)) ∧ (((s 1 1) ≤ x5_8) →
     (Rg x4_7) ∧ JN1 (fun v_14 =>
      K_3 (x2_1 + v_14) (x3_2 + 1))
     (fun K_15 =>
      JN0 (K_15 0)
      (fun K_17 =>
       ((x4_7 = 0) →
        K_17) ∧
       ((¬ x4_7 = 0) →
        wp_X0_isLeft x3_2 s (fun r_19 =>
        ((r_19 = 0) →
         K_17) ∧
        ((¬ r_19 = 0) →
         K_15 1)))))) ∧
    ((x5_8 < (s 1 1)) →
     (0 ≤ x5_8) ∧ (x5_8 < 120) ∧ (Rg (s 19 x5_8)) ∧ (Rg x3_2) ∧ JN1 (fun v_25 =>
      (0 ≤ x4_7) ∧ (0 ≤ v_25) ∧ K_9 (bor x4_7 v_25) (x5_8 + 1))
     (fun K_26 =>
      JN0 (K_26 0)
      (fun K_30 =>
       ((¬ (s 19 x5_8) = x3_2) →
        K_30) ∧
       (((s 19 x5_8) = x3_2) →
        wp_X1_has 1 36 19 20 21 x5_8 a1 s (fun r_32 =>
        ((¬ r_32 = 0) →
         K_30) ∧
        ((r_32 = 0) →
         K_26 1))))))) 0 0)) 0 0
def wp_X0_broken (a1 : Int) (s : Sg) (Q : Int → Prop) : Prop :=
  wp_X0_isString a1 s (fun r_1 =>
 ((r_1 = 0) →
  Q (-101)) ∧
 ((¬ r_1 = 0) →
  wp_X0_brokenOf a1 s (fun r_3 =>
  Q r_3)))
def wp_X0_added (s : Sg) (Q : Int → Sg → Prop) : Prop :=
  (Rg (s 1 0)) ∧ ((¬ (s 1 0) = 9) →
  wp_X1_lay 2 156 23 24 25 ((s 1 0) + 1) s (fun s_3 =>
  wp_X0_join 2 156 23 24 25 s_3 (fun s_5 =>
  LP2 (fun x1_6 x2_7 K_8 =>
   (Rg x2_7) ∧ (Rg (s_5 2 2)) ∧ (((s_5 2 2) ≤ x2_7) →
    Q x1_6 s_5) ∧
   ((x2_7 < (s_5 2 2)) →
    LP2 (fun x3_12 x4_13 K_14 =>
     (Rg x4_13) ∧ (Rg (s_5 0 9)) ∧ (((s_5 0 9) ≤ x4_13) →
      (Rg x3_12) ∧ JN1 (fun v_19 =>
       K_8 (x1_6 + v_19) (x2_7 + 1))
      (fun K_20 =>
       ((x3_12 = 0) →
        K_20 0) ∧
       ((¬ x3_12 = 0) →
        K_20 1))) ∧
     ((x4_13 < (s_5 0 9)) →
      (0 ≤ x4_13) ∧ (x4_13 < 20) ∧ (0 ≤ (s_5 5 x4_13)) ∧ ((s_5 5 x4_13) < 120) ∧ wp_X1_number 2 156 23 24 25 (s_5 (36 + ((s_5 5 x4_13) : Int).toNat) 0) (s_5 (36 + ((s_5 5 x4_13) : Int).toNat) 1) (s_5 (36 + ((s_5 5 x4_13) : Int).toNat) 2) s_5 (fun r_26 =>
      (0 ≤ r_26) ∧ (r_26 < 120) ∧ (Rg (s_5 23 r_26)) ∧ (Rg x2_7) ∧ JN1 (fun v_32 =>
       (0 ≤ x3_12) ∧ (0 ≤ v_32) ∧ K_14 (band x3_12 v_32) (x4_13 + 1))
      (fun K_33 =>
       (((s_5 23 r_26) = x2_7) →
        K_33 0) ∧
       ((¬ (s_5 23 r_26) = x2_7) →
        K_33 1))))) 1 0)) 0 0))) ∧
 (((s 1 0) = 9) →
  Q (-103) s)
def wp_X0_houseOf (a1 a2 : Int) (s : Sg) (Q : Int → Prop) : Prop :=
  (0 ≤ a1) ∧ (a1 < 120) ∧ (Rg (((s (36 + (a1 : Int).toNat) 0) + (s (36 + (a1 : Int).toNat) 1)) + (s (36 + (a1 : Int).toNat) 2))) ∧ (Rg a2) ∧ (0 ≤ (((s (36 + (a1 : Int).toNat) 0) + (s (36 + (a1 : Int).toNat) 1)) + (s (36 + (a1 : Int).toNat) 2))) ∧ (0 < a2) ∧ Q ((((s (36 + (a1 : Int).toNat) 0) + (s (36 + (a1 : Int).toNat) 1)) + (s (36 + (a1 : Int).toNat) 2)) % a2)
def wp_X0_planTold (a1 a2 : Int) (s : Sg) (Q : Int → Prop) : Prop :=
  LP3 (fun x3_1 x4_2 x5_3 K_4 =>
  (Rg x5_3) ∧ (Rg a1) ∧ ((a1 ≤ x5_3) →
   (Rg a2) ∧ ((¬ a2 = 1) →
    (Rg x3_1) ∧ ((x3_1 = 0) →
     Q 0) ∧
    ((¬ x3_1 = 0) →
     Q 1)) ∧
   ((a2 = 1) →
    Q x4_2)) ∧
  ((x5_3 < a1) →
   LP3 (fun x3_10 x6_11 x7_12 K_13 =>
    (Rg x7_12) ∧ (Rg (s 1 1)) ∧ (((s 1 1) ≤ x7_12) →
     (Rg x4_2) ∧ (Rg x6_11) ∧ K_4 x3_10 (imin x4_2 x6_11) (x5_3 + 1)) ∧
    ((x7_12 < (s 1 1)) →
     wp_X0_houseOf x7_12 a1 s (fun r_19 =>
     (Rg r_19) ∧ (Rg x5_3) ∧ JN1 (fun v_23 =>
      wp_X0_houseOf x7_12 a1 s (fun r_26 =>
      (0 ≤ x7_12) ∧ (x7_12 < 120) ∧ (0 ≤ (s 19 x7_12)) ∧ ((s 19 x7_12) < 120) ∧ wp_X0_houseOf (s 20 (s 19 x7_12)) a1 s (fun r_32 =>
      (Rg r_26) ∧ (Rg r_32) ∧ JN1 (fun v_36 =>
       (0 ≤ x3_10) ∧ (0 ≤ v_36) ∧ K_13 (band x3_10 v_36) (x6_11 + v_23) (x7_12 + 1))
      (fun K_37 =>
       ((¬ r_26 = r_32) →
        K_37 0) ∧
       ((r_26 = r_32) →
        K_37 1)))))
     (fun K_24 =>
      ((¬ r_19 = x5_3) →
       K_24 0) ∧
      ((r_19 = x5_3) →
       K_24 1))))) x3_1 0 0)) 1 84 0
def wp_X0_plan (a1 a2 : Int) (s : Sg) (Q : Int → Prop) : Prop :=
  wp_X0_in a1 2 9 (fun r_1 =>
 ((r_1 = 0) →
  Q (-102)) ∧
 ((¬ r_1 = 0) →
  wp_X0_in a2 0 1 (fun r_3 =>
  ((r_3 = 0) →
   Q (-102)) ∧
  ((¬ r_3 = 0) →
   wp_X0_planTold a1 a2 s (fun r_5 =>
   Q r_5)))))
def wp_X0_copy (k1 k2 : Nat) (n1 n2 : Nat) (s : Sg) (Q : Sg → Prop) : Prop :=
  LP2 (fun x2_1 s_2 K_3 =>
  (Rg x2_1) ∧ (Rg (n2 : Int)) ∧ (((n2 : Int) ≤ x2_1) →
   Q s_2) ∧
  ((x2_1 < (n2 : Int)) →
   (0 ≤ x2_1) ∧ (x2_1 < n1) ∧ (0 ≤ x2_1) ∧ (x2_1 < n2) ∧ K_3 (x2_1 + 1) (up s_2 k2 x2_1 (s_2 k1 x2_1)))) 0 s
def wp_X0_image (s : Sg) (Q : Int → Sg → Prop) : Prop :=
  wp_X0_copy 5 14 20 20 (up (up (up (up (up s 0 21 1) 0 22 ((up s 0 21 1) 0 1)) 0 23 ((up (up s 0 21 1) 0 22 ((up s 0 21 1) 0 1)) 0 7)) 0 24 ((up (up (up s 0 21 1) 0 22 ((up s 0 21 1) 0 1)) 0 23 ((up (up s 0 21 1) 0 22 ((up s 0 21 1) 0 1)) 0 7)) 0 9)) 0 25 ((up (up (up (up s 0 21 1) 0 22 ((up s 0 21 1) 0 1)) 0 23 ((up (up s 0 21 1) 0 22 ((up s 0 21 1) 0 1)) 0 7)) 0 24 ((up (up (up s 0 21 1) 0 22 ((up s 0 21 1) 0 1)) 0 23 ((up (up s 0 21 1) 0 22 ((up s 0 21 1) 0 1)) 0 7)) 0 9)) 0 14)) (fun s_2 =>
 wp_X0_copy 8 16 5 5 s_2 (fun s_4 =>
 wp_X0_copy 9 17 5 5 s_4 (fun s_6 =>
 LP2 (fun x1_7 s_8 K_9 =>
  (Rg x1_7) ∧ ((5 ≤ x1_7) →
   Q (s_8 0 9) s_8) ∧
  ((x1_7 < 5) →
   (0 ≤ x1_7) ∧ (x1_7 < 5) ∧ (0 ≤ x1_7) ∧ (x1_7 < 5) ∧ wp_X0_copy (26 + (x1_7 : Int).toNat) (31 + (x1_7 : Int).toNat) 6 6 s_8 (fun s_17 =>
   K_9 (x1_7 + 1) s_17))) 0 s_6)))
def wp_X0_restore (s : Sg) (Q : Int → Sg → Prop) : Prop :=
  (Rg (s 0 21)) ∧ (((s 0 21) = 0) →
  Q (-103) s) ∧
 ((¬ (s 0 21) = 0) →
  (Rg (s 0 22)) ∧ (Rg (s 0 1)) ∧ ((¬ (s 0 22) = (s 0 1)) →
   Q (-103) s) ∧
  (((s 0 22) = (s 0 1)) →
   (Rg (s 0 23)) ∧ (Rg (s 0 7)) ∧ (((s 0 23) = (s 0 7)) →
    wp_X0_copy 14 5 20 20 (up (up s 0 9 (s 0 24)) 0 14 ((up s 0 9 (s 0 24)) 0 25)) (fun s_7 =>
    wp_X0_copy 16 8 5 5 s_7 (fun s_9 =>
    wp_X0_copy 17 9 5 5 s_9 (fun s_11 =>
    LP2 (fun x1_12 s_13 K_14 =>
     (Rg x1_12) ∧ ((5 ≤ x1_12) →
      Q (s_13 0 9) s_13) ∧
     ((x1_12 < 5) →
      (0 ≤ x1_12) ∧ (x1_12 < 5) ∧ (0 ≤ x1_12) ∧ (x1_12 < 5) ∧ wp_X0_copy (31 + (x1_12 : Int).toNat) (26 + (x1_12 : Int).toNat) 6 6 s_13 (fun s_22 =>
      K_14 (x1_12 + 1) s_22))) 0 s_11)))) ∧
   ((¬ (s 0 23) = (s 0 7)) →
    Q (-103) s)))
def wp_X0_countOf (a1 : Int) (s : Sg) (Q : Int → Prop) : Prop :=
  (Rg a1) ∧ ((a1 = 0) →
  Q (s 1 0)) ∧
 ((a1 = 1) →
  Q (s 1 1)) ∧
 ((a1 = 2) →
  wp_J2_size s (fun r_2 =>
  Q r_2)) ∧
 ((a1 = 3) →
  Q (s 1 2)) ∧
 ((a1 = 4) →
  Q (s 0 9)) ∧
 ((a1 = 5) →
  Q (s 0 14)) ∧
 ((a1 = 6) →
  Q (s 0 3)) ∧
 ((a1 = 7) →
  Q (s 0 19)) ∧
 ((a1 < 0 ∨ 7 < a1) →
  Q (-102))
def wp_X0_count (a1 : Int) (s : Sg) (Q : Int → Prop) : Prop :=
  wp_X0_countOf a1 s (fun r_1 =>
 Q r_1)
def wp_X0_with (a1 a2 : Int) (Q : Int → Prop) : Prop :=
  Q ((31 * a1) + a2)
def wp_X0_withSorts (a1 : Int) (s : Sg) (Q : Int → Prop) : Prop :=
  LP2 (fun x3_1 x5_2 K_3 =>
  (Rg x5_2) ∧ (Rg (s 1 1)) ∧ (((s 1 1) ≤ x5_2) →
   LP2 (fun x3_7 x5_8 K_9 =>
    (Rg x5_8) ∧ (Rg (s 1 2)) ∧ (((s 1 2) ≤ x5_8) →
     wp_X0_leftTold 0 s (fun r_13 =>
     (Rg r_13) ∧ wp_X0_with x3_7 r_13 (fun r_16 =>
     wp_X0_leftTold 1 s (fun r_18 =>
     (Rg r_18) ∧ wp_X0_with r_16 r_18 (fun r_21 =>
     Q r_21))))) ∧
    ((x5_8 < (s 1 2)) →
     LP2 (fun x3_23 x6_24 K_25 =>
      (Rg x6_24) ∧ ((3 ≤ x6_24) →
       K_9 x3_23 (x5_8 + 1)) ∧
      ((x6_24 < 3) →
       wp_X0_sortTold x5_8 x6_24 s (fun r_28 =>
       (Rg r_28) ∧ wp_X0_with x3_23 r_28 (fun r_31 =>
       K_25 r_31 (x6_24 + 1))))) x3_7 0)) x3_1 0) ∧
  ((x5_2 < (s 1 1)) →
   (0 ≤ x5_2) ∧ (x5_2 < 120) ∧ (Rg (s 19 x5_2)) ∧ wp_X0_with x3_1 (s 19 x5_2) (fun r_36 =>
   wp_X0_asWhat x5_2 s (fun r_38 =>
   (Rg r_38) ∧ wp_X0_with r_36 r_38 (fun r_41 =>
   K_3 r_41 (x5_2 + 1)))))) a1 0
def wp_X0_digest (s : Sg) (Q : Int → Sg → Prop) : Prop :=
  LP2 (fun x1_1 x3_2 K_3 =>
  wp_J2_size s (fun r_5 =>
  (Rg x3_2) ∧ (Rg r_5) ∧ ((r_5 ≤ x3_2) →
   wp_X0_withSorts x1_1 s (fun r_9 =>
   wp_X0_layReadings s (fun r_11 s_12 =>
   (Rg r_11) ∧ wp_X0_with r_9 r_11 (fun r_14 =>
   wp_X0_surestTold s_12 (fun r_16 s_17 =>
   (Rg r_16) ∧ wp_X0_with r_14 r_16 (fun r_19 =>
   LP2 (fun x1_21 x3_22 K_23 =>
    (Rg x3_22) ∧ (Rg (s_17 1 0)) ∧ (((s_17 1 0) ≤ x3_22) →
     LP2 (fun x1_27 x3_28 K_29 =>
      (Rg x3_28) ∧ ((10 ≤ x3_28) →
       LP2 (fun x1_32 x3_33 K_34 =>
        (Rg x3_33) ∧ (Rg (s_17 0 3)) ∧ (((s_17 0 3) ≤ x3_33) →
         LP2 (fun x1_38 x3_39 K_40 =>
          (Rg x3_39) ∧ ((8 ≤ x3_39) →
           Q x1_38 s_17) ∧
          ((x3_39 < 8) →
           wp_X0_countOf x3_39 s_17 (fun r_43 =>
           (Rg r_43) ∧ wp_X0_with x1_38 r_43 (fun r_46 =>
           K_40 r_46 (x3_39 + 1))))) x1_32 0) ∧
        ((x3_33 < (s_17 0 3)) →
         (0 ≤ x3_33) ∧ (x3_33 < 20) ∧ (Rg (s_17 3 x3_33)) ∧ wp_X0_with x1_32 (s_17 3 x3_33) (fun r_51 =>
         K_34 r_51 (x3_33 + 1)))) x1_27 0) ∧
      ((x3_28 < 10) →
       wp_X0_planTold x3_28 0 s_17 (fun r_53 =>
       (Rg r_53) ∧ wp_X0_with x1_27 r_53 (fun r_56 =>
       wp_X0_planTold x3_28 1 s_17 (fun r_58 =>
       (Rg r_58) ∧ wp_X0_with r_56 r_58 (fun r_61 =>
       K_29 r_61 (x3_28 + 1))))))) x1_21 2) ∧
    ((x3_22 < (s_17 1 0)) →
     wp_X0_brokenOf x3_22 s_17 (fun r_63 =>
     (Rg r_63) ∧ wp_X0_with x1_21 r_63 (fun r_66 =>
     K_23 r_66 (x3_22 + 1))))) r_19 0)))))) ∧
  ((x3_2 < r_5) →
   (0 ≤ x3_2) ∧ (x3_2 < s 5000 2) ∧ (s 5000 2 ≤ 4) ∧ wp_X0_told x3_2 0 s (fun r_71 =>
   (Rg r_71) ∧ wp_X0_with x1_1 r_71 (fun r_74 =>
   (0 ≤ x3_2) ∧ (x3_2 < s 5000 2) ∧ (s 5000 2 ≤ 4) ∧ wp_X0_told x3_2 1 s (fun r_79 =>
   (Rg r_79) ∧ wp_X0_with r_74 r_79 (fun r_82 =>
   K_3 r_82 (x3_2 + 1)))))))) 547 0
def wp_X2_sound (a1 a2 a3 : Int) (s : Sg) (Q : Int → Prop) : Prop :=
  (0 ≤ ((2 * a1) + 1)) ∧ (((2 * a1) + 1) < 8) ∧ (0 ≤ (2 * a1)) ∧ ((2 * a1) < 8) ∧ (Rg (s 2 (2 * a1))) ∧ ((¬ (s 2 (2 * a1)) = 1) →
  (0 ≤ (2 * a1)) ∧ ((2 * a1) < 8) ∧ (Rg (s 2 (2 * a1))) ∧ ((¬ (s 2 (2 * a1)) = 2) →
   (Rg (s 2 ((2 * a1) + 1))) ∧ (0 ≤ (s 2 ((2 * a1) + 1))) ∧ (Rg (s 2 ((2 * a1) + 1))) ∧ (0 ≤ (s 2 ((2 * a1) + 1))) ∧ (Rg ((s 2 ((2 * a1) + 1)) / 10)) ∧ (Rg a3) ∧ ((a3 ≤ ((s 2 ((2 * a1) + 1)) / 10)) →
    Q a2) ∧
   ((((s 2 ((2 * a1) + 1)) / 10) < a3) →
    (Rg ((s 2 ((2 * a1) + 1)) % 10)) ∧ (Rg a3) ∧ ((((s 2 ((2 * a1) + 1)) % 10) < a3) →
     (Rg a2) ∧ (Rg ((s 2 ((2 * a1) + 1)) / 10)) ∧ ((¬ a2 = ((s 2 ((2 * a1) + 1)) / 10)) →
      (Rg a2) ∧ (Rg ((s 2 ((2 * a1) + 1)) % 10)) ∧ ((¬ a2 = ((s 2 ((2 * a1) + 1)) % 10)) →
       Q a2) ∧
      ((a2 = ((s 2 ((2 * a1) + 1)) % 10)) →
       Q ((s 2 ((2 * a1) + 1)) / 10))) ∧
     ((a2 = ((s 2 ((2 * a1) + 1)) / 10)) →
      Q ((s 2 ((2 * a1) + 1)) % 10))) ∧
    ((a3 ≤ ((s 2 ((2 * a1) + 1)) % 10)) →
     Q a2))) ∧
  (((s 2 (2 * a1)) = 2) →
   Q ((a3 - 1) - a2))) ∧
 (((s 2 (2 * a1)) = 1) →
  (Rg (a2 + (s 2 ((2 * a1) + 1)))) ∧ (Rg a3) ∧ (0 ≤ (a2 + (s 2 ((2 * a1) + 1)))) ∧ (0 < a3) ∧ Q ((a2 + (s 2 ((2 * a1) + 1))) % a3))
def wp_X2_numberOf (a1 a2 a3 a4 : Int) (Q : Int → Prop) : Prop :=
  (Rg a1) ∧ (Rg a2) ∧ JN1 (fun v_3 =>
  (Rg a1) ∧ (Rg a2) ∧ JN1 (fun v_8 =>
   LP2 (fun x7_11 x8_12 K_13 =>
    (Rg x8_12) ∧ (Rg v_3) ∧ ((v_3 ≤ x8_12) →
     LP2 (fun x7_17 x8_18 K_19 =>
      (Rg x8_18) ∧ (Rg ((((a1 + a2) + a3) - v_3) - v_8)) ∧ ((((((a1 + a2) + a3) - v_3) - v_8) ≤ x8_18) →
       Q (((x7_17 + v_8) - ((((a1 + a2) + a3) - v_3) - v_8)) - 1)) ∧
      ((x8_18 < ((((a1 + a2) + a3) - v_3) - v_8)) →
       K_19 (x7_17 + ((a4 - 1) - x8_18)) (x8_18 + 1))) x7_11 (v_3 + 1)) ∧
    ((x8_12 < v_3) →
     (Rg (((a4 - 1) - x8_12) * ((a4 - 2) - x8_12))) ∧ (0 ≤ (((a4 - 1) - x8_12) * ((a4 - 2) - x8_12))) ∧ K_13 (x7_11 + ((((a4 - 1) - x8_12) * ((a4 - 2) - x8_12)) / 2)) (x8_12 + 1))) 0 0)
  (fun K_9 =>
   ((a1 ≤ a2) →
    (Rg a2) ∧ (Rg a3) ∧ ((a2 ≤ a3) →
     K_9 a3) ∧
    ((a3 < a2) →
     K_9 a2)) ∧
   ((a2 < a1) →
    (Rg a1) ∧ (Rg a3) ∧ ((a1 ≤ a3) →
     K_9 a3) ∧
    ((a3 < a1) →
     K_9 a1))))
 (fun K_4 =>
  ((a2 ≤ a1) →
   (Rg a2) ∧ (Rg a3) ∧ ((a3 ≤ a2) →
    K_4 a3) ∧
   ((a2 < a3) →
    K_4 a2)) ∧
  ((a1 < a2) →
   (Rg a1) ∧ (Rg a3) ∧ ((a3 ≤ a1) →
    K_4 a3) ∧
   ((a1 < a3) →
    K_4 a1)))
def wp_X2_laySorts (ka : Nat) (a1 : Int) (s : Sg) (Q : Int → Sg → Prop) : Prop :=
  (Rg ((a1 * (a1 - 1)) * (a1 - 2))) ∧ (0 ≤ ((a1 * (a1 - 1)) * (a1 - 2))) ∧ LP2 (fun x4_3 s_4 K_5 =>
  (Rg x4_3) ∧ (Rg (((a1 * (a1 - 1)) * (a1 - 2)) / 6)) ∧ (((((a1 * (a1 - 1)) * (a1 - 2)) / 6) ≤ x4_3) →
   LP2 (fun x4_9 s_10 K_11 =>
    (Rg x4_9) ∧ ((x4_9 = 0) →
     LP3 (fun x5_14 x6_15 s_16 K_17 =>
      (Rg x6_15) ∧ (Rg (((a1 * (a1 - 1)) * (a1 - 2)) / 6)) ∧ (((((a1 * (a1 - 1)) * (a1 - 2)) / 6) ≤ x6_15) →
       Q x5_14 s_16) ∧
      ((x6_15 < (((a1 * (a1 - 1)) * (a1 - 2)) / 6)) →
       (0 ≤ x6_15) ∧ (x6_15 < 120) ∧ (Rg (s_16 ka x6_15)) ∧ (Rg x6_15) ∧ JN2 (fun x5_25 s_26 =>
        K_17 x5_25 (x6_15 + 1) s_26)
       (fun K_27 =>
        ((¬ (s_16 ka x6_15) = x6_15) →
         (0 ≤ x6_15) ∧ (x6_15 < 120) ∧ (0 ≤ (s_16 ka x6_15)) ∧ ((s_16 ka x6_15) < 120) ∧ (0 ≤ x6_15) ∧ (x6_15 < 120) ∧ K_27 x5_14 (up s_16 ka x6_15 (s_16 ka (s_16 ka x6_15)))) ∧
        (((s_16 ka x6_15) = x6_15) →
         (0 ≤ x6_15) ∧ (x6_15 < 120) ∧ K_27 (x5_14 + 1) (up s_16 ka x6_15 x5_14))))) 0 0 s_10) ∧
    ((¬ x4_9 = 0) →
     LP4 (fun x4_37 x5_38 x6_39 s_40 K_41 =>
      (Rg x6_39) ∧ (Rg a1) ∧ ((a1 ≤ x6_39) →
       K_11 x4_37 s_40) ∧
      ((x6_39 < a1) →
       LP4 (fun x4_45 x5_46 x7_47 s_48 K_49 =>
        (Rg x7_47) ∧ (Rg a1) ∧ ((a1 ≤ x7_47) →
         K_41 x4_45 x5_46 (x6_39 + 1) s_48) ∧
        ((x7_47 < a1) →
         LP4 (fun x4_53 x5_54 x8_55 s_56 K_57 =>
          (Rg x8_55) ∧ (Rg a1) ∧ ((a1 ≤ x8_55) →
           K_49 x4_53 x5_54 (x7_47 + 1) s_56) ∧
          ((x8_55 < a1) →
           LP3 (fun x4_61 x9_62 s_63 K_64 =>
            (Rg x9_62) ∧ (Rg (s_63 0 2)) ∧ (((s_63 0 2) ≤ x9_62) →
             K_57 x4_61 (x5_54 + 1) (x8_55 + 1) s_63) ∧
            ((x9_62 < (s_63 0 2)) →
             wp_X2_sound x9_62 x6_39 a1 s_63 (fun r_68 =>
             wp_X2_sound x9_62 x7_47 a1 s_63 (fun r_70 =>
             wp_X2_sound x9_62 x8_55 a1 s_63 (fun r_72 =>
             wp_X2_numberOf r_68 r_70 r_72 a1 (fun r_74 =>
             (0 ≤ x5_54) ∧ (x5_54 < 120) ∧ (0 ≤ r_74) ∧ (r_74 < 120) ∧ (Rg (s_63 ka x5_54)) ∧ (Rg (s_63 ka r_74)) ∧ JN1 (fun v_82 =>
              (Rg x4_61) ∧ JN1 (fun v_86 =>
               (0 ≤ x5_54) ∧ (x5_54 < 120) ∧ (0 ≤ r_74) ∧ (r_74 < 120) ∧ K_64 v_86 (x9_62 + 1) (up (up s_63 ka x5_54 v_82) ka r_74 v_82))
              (fun K_87 =>
               JN0 (K_87 1)
               (fun K_93 =>
                ((¬ x4_61 = 0) →
                 K_93) ∧
                ((x4_61 = 0) →
                 (0 ≤ x5_54) ∧ (x5_54 < 120) ∧ (0 ≤ r_74) ∧ (r_74 < 120) ∧ (Rg (s_63 ka x5_54)) ∧ (Rg (s_63 ka r_74)) ∧ (((s_63 ka x5_54) = (s_63 ka r_74)) →
                  K_87 0) ∧
                 ((¬ (s_63 ka x5_54) = (s_63 ka r_74)) →
                  K_93)))))
             (fun K_83 =>
              (((s_63 ka r_74) ≤ (s_63 ka x5_54)) →
               (0 ≤ r_74) ∧ (r_74 < 120) ∧ K_83 (s_63 ka r_74)) ∧
              (((s_63 ka x5_54) < (s_63 ka r_74)) →
               (0 ≤ x5_54) ∧ (x5_54 < 120) ∧ K_83 (s_63 ka x5_54))))))))) x4_53 0 s_56)) x4_45 x5_46 (x7_47 + 1) s_48)) x4_37 x5_38 (x6_39 + 1) s_40)) 0 0 0 s_10)) 1 s_4) ∧
  ((x4_3 < (((a1 * (a1 - 1)) * (a1 - 2)) / 6)) →
   (0 ≤ x4_3) ∧ (x4_3 < 120) ∧ K_5 (x4_3 + 1) (up s_4 ka x4_3 x4_3))) 0 s
def wp_X2_layChords (s : Sg) (Q : Sg → Prop) : Prop :=
  LP2 (fun x1_1 s_2 K_3 =>
  (Rg x1_1) ∧ (Rg (s_2 0 7)) ∧ (((s_2 0 7) ≤ x1_1) →
   wp_X2_laySorts 5 (s_2 0 7) s_2 (fun r_7 s_8 =>
   LP2 (fun x1_9 s_10 K_11 =>
    (Rg x1_9) ∧ ((x1_9 < 0) →
     Q s_10) ∧
    ((0 ≤ x1_9) →
     (0 ≤ x1_9) ∧ (x1_9 < 120) ∧ (0 ≤ (s_10 5 x1_9)) ∧ ((s_10 5 x1_9) < 120) ∧ K_11 (x1_9 + (-1)) (up s_10 6 (s_10 5 x1_9) x1_9))) (((up s_8 0 10 r_7) 0 8) - 1) (up s_8 0 10 r_7))) ∧
  ((x1_1 < (s_2 0 7)) →
   LP2 (fun x2_18 s_19 K_20 =>
    (Rg x2_18) ∧ (Rg (s_19 0 7)) ∧ (((s_19 0 7) ≤ x2_18) →
     K_3 (x1_1 + 1) s_19) ∧
    ((x2_18 < (s_19 0 7)) →
     LP2 (fun x3_24 s_25 K_26 =>
      (Rg x3_24) ∧ (Rg (s_25 0 7)) ∧ (((s_25 0 7) ≤ x3_24) →
       K_20 (x2_18 + 1) s_25) ∧
      ((x3_24 < (s_25 0 7)) →
       (0 ≤ (3 * (s_25 0 8))) ∧ ((3 * (s_25 0 8)) < 252) ∧ (0 ≤ ((3 * ((up s_25 4 (3 * (s_25 0 8)) x1_1) 0 8)) + 1)) ∧ (((3 * ((up s_25 4 (3 * (s_25 0 8)) x1_1) 0 8)) + 1) < 252) ∧ (0 ≤ ((3 * ((up (up s_25 4 (3 * (s_25 0 8)) x1_1) 4 ((3 * ((up s_25 4 (3 * (s_25 0 8)) x1_1) 0 8)) + 1) x2_18) 0 8)) + 2)) ∧ (((3 * ((up (up s_25 4 (3 * (s_25 0 8)) x1_1) 4 ((3 * ((up s_25 4 (3 * (s_25 0 8)) x1_1) 0 8)) + 1) x2_18) 0 8)) + 2) < 252) ∧ K_26 (x3_24 + 1) (up (up (up (up s_25 4 (3 * (s_25 0 8)) x1_1) 4 ((3 * ((up s_25 4 (3 * (s_25 0 8)) x1_1) 0 8)) + 1) x2_18) 4 ((3 * ((up (up s_25 4 (3 * (s_25 0 8)) x1_1) 4 ((3 * ((up s_25 4 (3 * (s_25 0 8)) x1_1) 0 8)) + 1) x2_18) 0 8)) + 2) x3_24) 0 8 (((up (up (up s_25 4 (3 * (s_25 0 8)) x1_1) 4 ((3 * ((up s_25 4 (3 * (s_25 0 8)) x1_1) 0 8)) + 1) x2_18) 4 ((3 * ((up (up s_25 4 (3 * (s_25 0 8)) x1_1) 4 ((3 * ((up s_25 4 (3 * (s_25 0 8)) x1_1) 0 8)) + 1) x2_18) 0 8)) + 2) x3_24) 0 8) + 1)))) (x2_18 + 1) s_19)) (x1_1 + 1) s_2)) 0 (up s 0 8 0)
def wp_X2_letters (a1 : Int) (s : Sg) (Q : Int → Sg → Prop) : Prop :=
  LP4 (fun x3_1 x4_2 x5_3 x7_4 K_5 =>
  (Rg x7_4) ∧ ((8 ≤ x7_4) →
   (Rg x4_2) ∧ ((¬ x4_2 = 0) →
    (Rg ((s 0 1) + x3_1)) ∧ ((((s 0 1) + x3_1) ≤ 20) →
     LP2 (fun x7_10 s_11 K_12 =>
      (Rg x7_10) ∧ (Rg x3_1) ∧ ((x3_1 ≤ x7_10) →
       Q (s_11 0 1) s_11) ∧
      ((x7_10 < x3_1) →
       (0 ≤ (8 * x7_10)) ∧ ((8 * x7_10) < 64) ∧ (0 ≤ (s_11 0 1)) ∧ ((s_11 0 1) < 20) ∧ K_12 (x7_10 + 1) (up (up s_11 1 (s_11 0 1) ((a1 % 18446744073709551616 / 2 ^ ((8 * x7_10) : Int).toNat) % 2 ^ 8)) 0 1 (((up s_11 1 (s_11 0 1) ((a1 % 18446744073709551616 / 2 ^ ((8 * x7_10) : Int).toNat) % 2 ^ 8)) 0 1) + 1)))) 0 s) ∧
    ((20 < ((s 0 1) + x3_1)) →
     Q (-104) s)) ∧
   ((x4_2 = 0) →
    Q (-102) s)) ∧
  ((x7_4 < 8) →
   (Rg x4_2) ∧ JN1 (fun v_21 =>
    (Rg (x5_3 % 2 ^ 8)) ∧ JN1 (fun v_25 =>
     K_5 (x3_1 + v_25) v_21 (x5_3 % 18446744073709551616 / 2 ^ (8 : Int).toNat) (x7_4 + 1))
    (fun K_26 =>
     (((x5_3 % 2 ^ 8) ≤ 0) →
      K_26 0) ∧
     ((0 < (x5_3 % 2 ^ 8)) →
      K_26 1)))
   (fun K_22 =>
    JN0 (K_22 0)
    (fun K_28 =>
     ((x4_2 = 0) →
      K_28) ∧
     ((¬ x4_2 = 0) →
      (Rg (x5_3 % 2 ^ 8)) ∧ ((126 < (x5_3 % 2 ^ 8)) →
       K_28) ∧
      (((x5_3 % 2 ^ 8) ≤ 126) →
       (Rg (x5_3 % 2 ^ 8)) ∧ JN0 (K_22 1)
       (fun K_32 =>
        (((x5_3 % 2 ^ 8) = 0) →
         K_32) ∧
        ((¬ (x5_3 % 2 ^ 8) = 0) →
         (Rg x3_1) ∧ (Rg x7_4) ∧ ((¬ x3_1 = x7_4) →
          K_28) ∧
         ((x3_1 = x7_4) →
          K_32))))))))) 0 1 a1 0
def wp_X2_blank (s : Sg) (Q : Int → Sg → Prop) : Prop :=
  Q (s 0 1) (up s 0 1 0)
def wp_X2_in (a1 a2 a3 : Int) (Q : Int → Prop) : Prop :=
  (RgL a1) ∧ (RgL a2) ∧ ((a1 < a2) →
  Q 0) ∧
 ((a2 ≤ a1) →
  (RgL a1) ∧ (RgL a3) ∧ ((a3 < a1) →
   Q 0) ∧
  ((a1 ≤ a3) →
   Q 1))
def wp_X2_go (a1 : Int) (s : Sg) (Q : Int → Sg → Prop) : Prop :=
  (Rg (s 0 4)) ∧ (((s 0 4) = 0) →
  (Rg a1) ∧ JN1 (fun v_3 =>
   (0 ≤ (2 * (s 0 5))) ∧ ((2 * (s 0 5)) < 8) ∧ (0 ≤ ((2 * (s 0 5)) + 1)) ∧ (((2 * (s 0 5)) + 1) < 8) ∧ (Rg a1) ∧ JN1 (fun v_11 =>
    (Rg a1) ∧ JN0 (Q 1 (up (up (up s 3 (2 * (s 0 5)) v_3) 3 ((2 * (s 0 5)) + 1) (-1)) 0 4 v_11))
    (fun K_15 =>
     ((a1 = 115) →
      K_15) ∧
     ((¬ a1 = 115) →
      (Rg a1) ∧ ((a1 = 117) →
       K_15) ∧
      ((¬ a1 = 117) →
       (Rg a1) ∧ ((¬ a1 = 120) →
        Q 0 (up (up (up s 3 (2 * (s 0 5)) v_3) 3 ((2 * (s 0 5)) + 1) (-1)) 0 4 v_11)) ∧
       ((a1 = 120) →
        K_15)))))
   (fun K_12 =>
    ((¬ a1 = 115) →
     (Rg a1) ∧ ((¬ a1 = 117) →
      K_12 2) ∧
     ((a1 = 117) →
      K_12 4)) ∧
    ((a1 = 115) →
     K_12 1)))
  (fun K_4 =>
   ((¬ a1 = 115) →
    (Rg a1) ∧ ((¬ a1 = 117) →
     K_4 3) ∧
    ((a1 = 117) →
     K_4 2)) ∧
   ((a1 = 115) →
    K_4 1))) ∧
 (((s 0 4) = 1) →
  (0 ≤ ((2 * (s 0 5)) + 1)) ∧ (((2 * (s 0 5)) + 1) < 8) ∧ (Rg a1) ∧ wp_X2_in a1 49 56 (fun r_24 =>
  Q r_24 (up (up s 3 ((2 * (s 0 5)) + 1) (a1 - 48)) 0 4 4))) ∧
 (((s 0 4) = 2) →
  (0 ≤ ((2 * (s 0 5)) + 1)) ∧ (((2 * (s 0 5)) + 1) < 8) ∧ (Rg a1) ∧ wp_X2_in a1 48 56 (fun r_29 =>
  Q r_29 (up (up s 3 ((2 * (s 0 5)) + 1) (10 * (a1 - 48))) 0 4 3))) ∧
 (((s 0 4) = 3) →
  (0 ≤ ((2 * (s 0 5)) + 1)) ∧ (((2 * (s 0 5)) + 1) < 8) ∧ (Rg (s 3 ((2 * (s 0 5)) + 1))) ∧ (0 ≤ (s 3 ((2 * (s 0 5)) + 1))) ∧ (Rg (a1 - 48)) ∧ (Rg ((s 3 ((2 * (s 0 5)) + 1)) / 10)) ∧ JN1 (fun v_37 =>
   (0 ≤ ((2 * (s 0 5)) + 1)) ∧ (((2 * (s 0 5)) + 1) < 8) ∧ (0 ≤ ((2 * (s 0 5)) + 1)) ∧ (((2 * (s 0 5)) + 1) < 8) ∧ (Rg a1) ∧ wp_X2_in a1 48 56 (fun r_45 =>
   ((r_45 = 0) →
    Q 0 (up (up s 3 ((2 * (s 0 5)) + 1) ((s 3 ((2 * (s 0 5)) + 1)) + (a1 - 48))) 0 4 4)) ∧
   ((¬ r_45 = 0) →
    (Rg v_37) ∧ ((v_37 = 0) →
     Q 0 (up (up s 3 ((2 * (s 0 5)) + 1) ((s 3 ((2 * (s 0 5)) + 1)) + (a1 - 48))) 0 4 4)) ∧
    ((¬ v_37 = 0) →
     Q 1 (up (up s 3 ((2 * (s 0 5)) + 1) ((s 3 ((2 * (s 0 5)) + 1)) + (a1 - 48))) 0 4 4)))))
  (fun K_38 =>
   (((a1 - 48) = ((s 3 ((2 * (s 0 5)) + 1)) / 10)) →
    K_38 0) ∧
   ((¬ (a1 - 48) = ((s 3 ((2 * (s 0 5)) + 1)) / 10)) →
    K_38 1))) ∧
 (((s 0 4) < 0 ∨ 3 < (s 0 4)) →
  (Rg a1) ∧ ((¬ a1 = 44) →
   Q 0 (up (up s 0 5 ((s 0 5) + 1)) 0 4 0)) ∧
  ((a1 = 44) →
   (Rg ((up (up s 0 5 ((s 0 5) + 1)) 0 4 0) 0 5)) ∧ ((4 ≤ ((up (up s 0 5 ((s 0 5) + 1)) 0 4 0) 0 5)) →
    Q 0 (up (up s 0 5 ((s 0 5) + 1)) 0 4 0)) ∧
   ((((up (up s 0 5 ((s 0 5) + 1)) 0 4 0) 0 5) < 4) →
    Q 1 (up (up s 0 5 ((s 0 5) + 1)) 0 4 0))))
def wp_X2_faultOf (s : Sg) (Q : Int → Sg → Prop) : Prop :=
  LP2 (fun x1_1 s_2 K_3 =>
  (Rg x1_1) ∧ (Rg (s_2 0 1)) ∧ (((s_2 0 1) ≤ x1_1) →
   Q x1_1 s_2) ∧
  ((x1_1 < (s_2 0 1)) →
   (0 ≤ x1_1) ∧ (x1_1 < 20) ∧ wp_X2_go (s_2 1 x1_1) s_2 (fun r_9 s_10 =>
   ((r_9 = 0) →
    Q x1_1 s_10) ∧
   ((¬ r_9 = 0) →
    K_3 (x1_1 + 1) s_10)))) 0 (up (up s 0 4 0) 0 5 0)
def wp_X2_fault (s : Sg) (Q : Int → Sg → Prop) : Prop :=
  wp_X2_faultOf s (fun r_1 s_2 =>
 Q r_1 s_2)
def wp_X2_strings (a1 : Int) (s : Sg) (Q : Int → Sg → Prop) : Prop :=
  (Rg a1) ∧ wp_X2_in a1 3 9 (fun r_2 =>
 ((¬ r_2 = 0) →
  wp_X2_layChords (up s 0 7 a1) (fun s_5 =>
  Q ((up (up (up s_5 0 13 0) 0 15 0) 0 17 (((up (up s_5 0 13 0) 0 15 0) 0 17) + 1)) 0 8) (up (up (up s_5 0 13 0) 0 15 0) 0 17 (((up (up s_5 0 13 0) 0 15 0) 0 17) + 1)))) ∧
 ((r_2 = 0) →
  Q (-102) s))
def wp_X2_law (s : Sg) (Q : Int → Sg → Prop) : Prop :=
  wp_X2_faultOf s (fun r_1 s_2 =>
 (Rg r_1) ∧ (Rg (s_2 0 1)) ∧ ((r_1 < (s_2 0 1)) →
  Q (-103) s_2) ∧
 (((s_2 0 1) ≤ r_1) →
  (Rg (s_2 0 4)) ∧ (((s_2 0 4) = 4) →
   LP2 (fun x1_6 s_7 K_8 =>
    (Rg x1_6) ∧ ((8 ≤ x1_6) →
     wp_X2_layChords s_7 (fun s_12 =>
     Q ((up (up (up s_12 0 15 0) 0 17 (((up s_12 0 15 0) 0 17) + 1)) 0 1 0) 0 10) (up (up (up s_12 0 15 0) 0 17 (((up s_12 0 15 0) 0 17) + 1)) 0 1 0))) ∧
    ((x1_6 < 8) →
     (0 ≤ x1_6) ∧ (x1_6 < 8) ∧ (0 ≤ x1_6) ∧ (x1_6 < 8) ∧ K_8 (x1_6 + 1) (up s_7 2 x1_6 (s_7 3 x1_6)))) 0 (up s_2 0 2 ((s_2 0 5) + 1))) ∧
  ((¬ (s_2 0 4) = 4) →
   Q (-103) s_2)))
def wp_X2_isLikeness (a1 : Int) (s : Sg) (Q : Int → Prop) : Prop :=
  (Rg a1) ∧ (Rg ((s 0 2) - 1)) ∧ wp_X2_in a1 0 ((s 0 2) - 1) (fun r_3 =>
 Q r_3)
def wp_X2_about (a1 a2 : Int) (s : Sg) (Q : Int → Prop) : Prop :=
  wp_X2_isLikeness a1 s (fun r_1 =>
 ((¬ r_1 = 0) →
  (Rg a2) ∧ wp_X2_in a2 0 1 (fun r_4 =>
  ((r_4 = 0) →
   Q (-102)) ∧
  ((¬ r_4 = 0) →
   (0 ≤ ((2 * a1) + a2)) ∧ (((2 * a1) + a2) < 8) ∧ Q (s 2 ((2 * a1) + a2))))) ∧
 ((r_1 = 0) →
  Q (-101)))
def wp_X2_as (a1 a2 : Int) (s : Sg) (Q : Int → Prop) : Prop :=
  wp_X2_isLikeness a1 s (fun r_1 =>
 ((¬ r_1 = 0) →
  (Rg a2) ∧ wp_X2_in a2 0 3 (fun r_4 =>
  ((¬ r_4 = 0) →
   (0 ≤ (2 * a1)) ∧ ((2 * a1) < 8) ∧ (Rg a2) ∧ JN1 (fun v_9 =>
    (Rg v_9) ∧ ((v_9 = 0) →
     Q (-1)) ∧
    ((¬ v_9 = 0) →
     Q a1))
   (fun K_10 =>
    JN0 (K_10 1)
    (fun K_13 =>
     ((a2 = 0) →
      K_13) ∧
     ((¬ a2 = 0) →
      (Rg a2) ∧ (Rg (s 2 (2 * a1))) ∧ ((a2 = (s 2 (2 * a1))) →
       K_13) ∧
      ((¬ a2 = (s 2 (2 * a1))) →
       (Rg a2) ∧ JN0 (K_10 0)
       (fun K_18 =>
        ((¬ a2 = 3) →
         K_18) ∧
        ((a2 = 3) →
         (Rg (s 2 (2 * a1))) ∧ ((¬ (s 2 (2 * a1)) = 2) →
          K_18) ∧
         (((s 2 (2 * a1)) = 2) →
          K_13)))))))) ∧
  ((r_4 = 0) →
   Q (-102)))) ∧
 ((r_1 = 0) →
  Q (-101)))
def wp_X2_isString (a1 : Int) (s : Sg) (Q : Int → Prop) : Prop :=
  (Rg a1) ∧ (Rg ((s 0 7) - 1)) ∧ wp_X2_in a1 0 ((s 0 7) - 1) (fun r_3 =>
 Q r_3)
def wp_X2_sounds (a1 a2 : Int) (s : Sg) (Q : Int → Prop) : Prop :=
  wp_X2_isLikeness a1 s (fun r_1 =>
 ((r_1 = 0) →
  Q (-101)) ∧
 ((¬ r_1 = 0) →
  wp_X2_isString a2 s (fun r_3 =>
  ((r_3 = 0) →
   Q (-101)) ∧
  ((¬ r_3 = 0) →
   wp_X2_sound a1 a2 (s 0 7) s (fun r_5 =>
   Q r_5)))))
def wp_X2_chord (a1 a2 a3 : Int) (s : Sg) (Q : Int → Prop) : Prop :=
  wp_X2_isString a1 s (fun r_1 =>
 JN1 (fun v_3 =>
  (Rg v_3) ∧ ((v_3 = 0) →
   Q (-101)) ∧
  ((¬ v_3 = 0) →
   wp_X2_numberOf a1 a2 a3 (s 0 7) (fun r_7 =>
   Q r_7)))
 (fun K_4 =>
  JN0 (K_4 0)
  (fun K_9 =>
   ((r_1 = 0) →
    K_9) ∧
   ((¬ r_1 = 0) →
    wp_X2_isString a2 s (fun r_11 =>
    ((r_11 = 0) →
     K_9) ∧
    ((¬ r_11 = 0) →
     wp_X2_isString a3 s (fun r_13 =>
     ((r_13 = 0) →
      K_9) ∧
     ((¬ r_13 = 0) →
      (Rg a1) ∧ (Rg a2) ∧ ((a1 = a2) →
       K_9) ∧
      ((¬ a1 = a2) →
       (Rg a1) ∧ (Rg a3) ∧ ((a1 = a3) →
        K_9) ∧
       ((¬ a1 = a3) →
        (Rg a2) ∧ (Rg a3) ∧ ((a2 = a3) →
         K_9) ∧
        ((¬ a2 = a3) →
         K_4 1)))))))))))
def wp_X2_isChord (a1 : Int) (s : Sg) (Q : Int → Prop) : Prop :=
  (Rg a1) ∧ (Rg ((s 0 8) - 1)) ∧ wp_X2_in a1 0 ((s 0 8) - 1) (fun r_3 =>
 Q r_3)
def wp_X2_part (a1 a2 : Int) (s : Sg) (Q : Int → Prop) : Prop :=
  wp_X2_isChord a1 s (fun r_1 =>
 ((¬ r_1 = 0) →
  (Rg a2) ∧ wp_X2_in a2 0 2 (fun r_4 =>
  ((r_4 = 0) →
   (Rg a2) ∧ ((¬ a2 = 3) →
    Q (-102)) ∧
   ((a2 = 3) →
    (0 ≤ a1) ∧ (a1 < 120) ∧ Q (s 5 a1))) ∧
  ((¬ r_4 = 0) →
   (0 ≤ ((3 * a1) + a2)) ∧ (((3 * a1) + a2) < 252) ∧ Q (s 4 ((3 * a1) + a2))))) ∧
 ((r_1 = 0) →
  Q (-101)))
def wp_X2_asOf (a1 : Int) (s : Sg) (Q : Int → Prop) : Prop :=
  LP1 (fun x2_1 K_2 =>
  (Rg x2_1) ∧ (Rg (s 0 13)) ∧ (((s 0 13) ≤ x2_1) →
   Q (-1)) ∧
  ((x2_1 < (s 0 13)) →
   (0 ≤ x2_1) ∧ (x2_1 < 20) ∧ (0 ≤ (s 7 x2_1)) ∧ ((s 7 x2_1) < 120) ∧ (0 ≤ a1) ∧ (a1 < 120) ∧ (Rg (s 5 (s 7 x2_1))) ∧ (Rg (s 5 a1)) ∧ ((¬ (s 5 (s 7 x2_1)) = (s 5 a1)) →
    K_2 (x2_1 + 1)) ∧
   (((s 5 (s 7 x2_1)) = (s 5 a1)) →
    (0 ≤ x2_1) ∧ (x2_1 < 20) ∧ Q (s 7 x2_1)))) 0
def wp_X2_isLeft (a1 : Int) (s : Sg) (Q : Int → Prop) : Prop :=
  (0 ≤ a1) ∧ (a1 < 120) ∧ wp_X2_asOf (s 6 a1) s (fun r_3 =>
 (Rg r_3) ∧ ((¬ r_3 = (-1)) →
  Q 0) ∧
 ((r_3 = (-1)) →
  Q 1))
def wp_X2_sizeOf (a1 : Int) (s : Sg) (Q : Int → Prop) : Prop :=
  LP2 (fun x2_1 x3_2 K_3 =>
  (Rg x3_2) ∧ (Rg (s 0 8)) ∧ (((s 0 8) ≤ x3_2) →
   Q x2_1) ∧
  ((x3_2 < (s 0 8)) →
   (0 ≤ x3_2) ∧ (x3_2 < 120) ∧ (Rg (s 5 x3_2)) ∧ (Rg a1) ∧ JN1 (fun v_11 =>
    K_3 (x2_1 + v_11) (x3_2 + 1))
   (fun K_12 =>
    ((¬ (s 5 x3_2) = a1) →
     K_12 0) ∧
    (((s 5 x3_2) = a1) →
     K_12 1)))) 0 0
def wp_X2_tellSort (a1 a2 : Int) (s : Sg) (Q : Int → Prop) : Prop :=
  (Rg a2) ∧ ((¬ a2 = 0) →
  (Rg a2) ∧ ((¬ a2 = 1) →
   (Rg a2) ∧ ((¬ a2 = 2) →
    Q (-102)) ∧
   ((a2 = 2) →
    wp_X2_isLeft a1 s (fun r_4 =>
    ((r_4 = 0) →
     Q 0) ∧
    ((¬ r_4 = 0) →
     Q 1)))) ∧
  ((a2 = 1) →
   wp_X2_sizeOf a1 s (fun r_6 =>
   Q r_6))) ∧
 ((a2 = 0) →
  (0 ≤ a1) ∧ (a1 < 120) ∧ Q (s 6 a1))
def wp_X2_sort (a1 a2 : Int) (s : Sg) (Q : Int → Prop) : Prop :=
  (Rg a1) ∧ (Rg ((s 0 10) - 1)) ∧ wp_X2_in a1 0 ((s 0 10) - 1) (fun r_3 =>
 ((r_3 = 0) →
  Q (-101)) ∧
 ((¬ r_3 = 0) →
  wp_X2_tellSort a1 a2 s (fun r_5 =>
  Q r_5)))
def wp_X2_strike (a1 : Int) (s : Sg) (Q : Int → Sg → Prop) : Prop :=
  wp_X2_isChord a1 s (fun r_1 =>
 ((¬ r_1 = 0) →
  wp_X2_asOf a1 s (fun r_3 =>
  (Rg r_3) ∧ ((r_3 = (-1)) →
   (Rg (s 0 13)) ∧ ((¬ (s 0 13) = 20) →
    (0 ≤ (s 0 13)) ∧ ((s 0 13) < 20) ∧ Q 1 (up (up s 7 (s 0 13) a1) 0 13 (((up s 7 (s 0 13) a1) 0 13) + 1))) ∧
   (((s 0 13) = 20) →
    Q (-104) s)) ∧
  ((¬ r_3 = (-1)) →
   Q 0 s))) ∧
 ((r_1 = 0) →
  Q (-101) s))
def wp_X2_heardAs (a1 : Int) (s : Sg) (Q : Int → Prop) : Prop :=
  wp_X2_isChord a1 s (fun r_1 =>
 ((r_1 = 0) →
  Q (-101)) ∧
 ((¬ r_1 = 0) →
  wp_X2_asOf a1 s (fun r_3 =>
  Q r_3)))
def wp_X2_forget (s : Sg) (Q : Int → Sg → Prop) : Prop :=
  Q (s 0 13) (up s 0 13 0)
def wp_X2_leftOf (a1 : Int) (s : Sg) (Q : Int → Prop) : Prop :=
  LP2 (fun x2_1 x3_2 K_3 =>
  (Rg x3_2) ∧ (Rg (s 0 10)) ∧ (((s 0 10) ≤ x3_2) →
   Q x2_1) ∧
  ((x3_2 < (s 0 10)) →
   wp_X2_isLeft x3_2 s (fun r_7 =>
   JN1 (fun v_9 =>
    K_3 (x2_1 + v_9) (x3_2 + 1))
   (fun K_10 =>
    ((r_7 = 0) →
     K_10 0) ∧
    ((¬ r_7 = 0) →
     (Rg a1) ∧ ((¬ a1 = 0) →
      wp_X2_sizeOf x3_2 s (fun r_13 =>
      K_10 r_13)) ∧
     ((a1 = 0) →
      K_10 1)))))) 0 0
def wp_X2_left (a1 : Int) (s : Sg) (Q : Int → Prop) : Prop :=
  (Rg a1) ∧ wp_X2_in a1 0 1 (fun r_2 =>
 ((r_2 = 0) →
  Q (-102)) ∧
 ((¬ r_2 = 0) →
  wp_X2_leftOf a1 s (fun r_4 =>
  Q r_4)))
def wp_X2_nth (a1 : Int) (s : Sg) (Q : Int → Prop) : Prop :=
  (Rg a1) ∧ wp_X2_in a1 0 83 (fun r_2 =>
 ((¬ r_2 = 0) →
  LP2 (fun x2_4 x3_5 K_6 =>
   (Rg x3_5) ∧ (Rg (s 0 8)) ∧ (((s 0 8) ≤ x3_5) →
    Q (-1)) ∧
   ((x3_5 < (s 0 8)) →
    wp_X2_asOf x3_5 s (fun r_10 =>
    (Rg r_10) ∧ JN1 (fun x2_13 =>
     K_6 x2_13 (x3_5 + 1))
    (fun K_14 =>
     ((¬ r_10 = (-1)) →
      K_14 x2_4) ∧
     ((r_10 = (-1)) →
      (Rg x2_4) ∧ (Rg a1) ∧ ((¬ x2_4 = a1) →
       K_14 (x2_4 + 1)) ∧
      ((x2_4 = a1) →
       Q x3_5)))))) 0 0) ∧
 ((r_2 = 0) →
  Q (-102)))
def wp_X2_term (a1 a2 a3 : Int) (Q : Int → Prop) : Prop :=
  LP2 (fun x5_1 x7_2 K_3 =>
  (RgL x5_1) ∧ ((x5_1 = 0) →
   (Rg a3) ∧ ((¬ a3 = 0) →
    (RgL a2) ∧ (RgL x7_2) ∧ (0 ≤ a2) ∧ (0 < x7_2) ∧ Q (a2 / x7_2)) ∧
   ((a3 = 0) →
    (RgL a1) ∧ (RgL x7_2) ∧ (0 ≤ a1) ∧ (0 < x7_2) ∧ Q (a1 / x7_2))) ∧
  ((¬ x5_1 = 0) →
   (RgL x7_2) ∧ (RgL x5_1) ∧ (0 ≤ x7_2) ∧ (0 < x5_1) ∧ K_3 (x7_2 % x5_1) x5_1)) a1 a2
def wp_X2_choose (a1 a2 : Int) (Q : Int → Prop) : Prop :=
  LP2 (fun x2_1 x4_2 K_3 =>
  (Rg x4_2) ∧ (Rg a2) ∧ ((a2 ≤ x4_2) →
   Q x2_1) ∧
  ((x4_2 < a2) →
   (Rg (a1 - x4_2)) ∧ (Rg (x4_2 + 1)) ∧ (RgL (x2_1 * (a1 - x4_2))) ∧ (RgL (x4_2 + 1)) ∧ (0 ≤ (x2_1 * (a1 - x4_2))) ∧ (0 < (x4_2 + 1)) ∧ K_3 ((x2_1 * (a1 - x4_2)) / (x4_2 + 1)) (x4_2 + 1))) 1 0
def wp_X2_addSort (a1 a2 : Int) (s : Sg) (Q : Sg → Prop) : Prop :=
  LP2 (fun x3_1 s_2 K_3 =>
  (Rg x3_1) ∧ ((25 ≤ x3_1) →
   LP2 (fun x3_6 s_7 K_8 =>
    (Rg x3_6) ∧ (Rg a1) ∧ ((a1 ≤ x3_6) →
     LP2 (fun x3_12 s_13 K_14 =>
      (Rg x3_12) ∧ ((25 ≤ x3_12) →
       Q s_13) ∧
      ((x3_12 < 25) →
       (0 ≤ x3_12) ∧ (x3_12 < 25) ∧ (0 ≤ x3_12) ∧ (x3_12 < 25) ∧ K_14 (x3_12 + 1) (up s_13 9 x3_12 (s_13 10 x3_12)))) 0 s_7) ∧
    ((x3_6 < a1) →
     LP3 (fun x4_21 x6_22 s_23 K_24 =>
      (Rg (x3_6 + x6_22)) ∧ (Rg a1) ∧ ((a1 < (x3_6 + x6_22)) →
       K_8 (x3_6 + 1) s_23) ∧
      (((x3_6 + x6_22) ≤ a1) →
       (Rg a2) ∧ LP2 (fun x7_29 s_30 K_31 =>
        (Rg x7_29) ∧ (Rg a1) ∧ ((a1 ≤ x7_29) →
         K_24 (x4_21 * a2) (x6_22 + 1) s_30) ∧
        ((x7_29 < a1) →
         (0 ≤ (((5 * (x3_6 + x6_22)) + x7_29) + 1)) ∧ ((((5 * (x3_6 + x6_22)) + x7_29) + 1) < 25) ∧ (0 ≤ ((5 * x3_6) + x7_29)) ∧ (((5 * x3_6) + x7_29) < 25) ∧ wp_X2_choose (a1 - x3_6) x6_22 (fun r_39 =>
         (0 ≤ (((5 * (x3_6 + x6_22)) + x7_29) + 1)) ∧ ((((5 * (x3_6 + x6_22)) + x7_29) + 1) < 25) ∧ K_31 (x7_29 + 1) (up s_30 10 (((5 * (x3_6 + x6_22)) + x7_29) + 1) ((s_30 10 (((5 * (x3_6 + x6_22)) + x7_29) + 1)) + (((s_30 9 ((5 * x3_6) + x7_29)) * r_39) * (x4_21 * a2))))))) 0 s_23)) 1 1 s_7)) 0 s_2) ∧
  ((x3_1 < 25) →
   (0 ≤ x3_1) ∧ (x3_1 < 25) ∧ (0 ≤ x3_1) ∧ (x3_1 < 25) ∧ K_3 (x3_1 + 1) (up s_2 10 x3_1 (s_2 9 x3_1)))) 0 s
def wp_X2_strangers (a1 a2 a3 : Int) (s : Sg) (Q : Int → Sg → Prop) : Prop :=
  (Rg a1) ∧ wp_X2_in a1 1 4 (fun r_2 =>
 ((r_2 = 0) →
  Q (-102) s) ∧
 ((¬ r_2 = 0) →
  (Rg a2) ∧ (Rg a1) ∧ wp_X2_in a2 0 a1 (fun r_6 =>
  ((r_6 = 0) →
   Q (-102) s) ∧
  ((¬ r_6 = 0) →
   (Rg a3) ∧ wp_X2_in a3 0 1 (fun r_9 =>
   ((¬ r_9 = 0) →
    LP2 (fun x4_11 s_12 K_13 =>
     (Rg x4_11) ∧ ((25 ≤ x4_11) →
      LP2 (fun x4_16 s_17 K_18 =>
       (Rg x4_16) ∧ (Rg (s_17 0 10)) ∧ (((s_17 0 10) ≤ x4_16) →
        wp_X2_leftOf 1 s_17 (fun r_22 =>
        LP2 (fun x5_24 x7_25 K_26 =>
         (Rg x7_25) ∧ (Rg a1) ∧ ((a1 ≤ x7_25) →
          LP2 (fun x7_30 x9_31 K_32 =>
           (Rg x9_31) ∧ (Rg a1) ∧ ((a1 < x9_31) →
            wp_X2_term x7_30 x5_24 a3 (fun r_36 =>
            Q r_36 s_17)) ∧
           ((x9_31 ≤ a1) →
            (0 ≤ ((5 * x9_31) + a2)) ∧ (((5 * x9_31) + a2) < 25) ∧ LP2 (fun x10_40 x12_41 K_42 =>
             (Rg x12_41) ∧ (Rg a1) ∧ ((a1 ≤ x12_41) →
              K_32 (x7_30 + x10_40) (x9_31 + 1)) ∧
             ((x12_41 < a1) →
              (Rg ((s_17 0 8) - r_22)) ∧ K_42 (x10_40 * ((s_17 0 8) - r_22)) (x12_41 + 1))) (s_17 9 ((5 * x9_31) + a2)) x9_31)) 0 0) ∧
         ((x7_25 < a1) →
          (Rg (s_17 0 8)) ∧ K_26 (x5_24 * (s_17 0 8)) (x7_25 + 1))) 1 0)) ∧
       ((x4_16 < (s_17 0 10)) →
        wp_X2_isLeft x4_16 s_17 (fun r_48 =>
        JN1 (fun s_50 =>
         K_18 (x4_16 + 1) s_50)
        (fun K_51 =>
         ((r_48 = 0) →
          K_51 s_17) ∧
         ((¬ r_48 = 0) →
          wp_X2_sizeOf x4_16 s_17 (fun r_53 =>
          wp_X2_addSort a1 r_53 s_17 (fun s_56 =>
          K_51 s_56))))))) 0 s_12) ∧
     ((x4_11 < 25) →
      (Rg x4_11) ∧ JN1 (fun v_58 =>
       (0 ≤ x4_11) ∧ (x4_11 < 25) ∧ K_13 (x4_11 + 1) (up s_12 9 x4_11 v_58))
      (fun K_59 =>
       ((¬ x4_11 = 0) →
        K_59 0) ∧
       ((x4_11 = 0) →
        K_59 1)))) 0 s) ∧
   ((r_9 = 0) →
    Q (-102) s))))))
def wp_X2_placeOf (a1 : Int) (s : Sg) (Q : Int → Prop) : Prop :=
  LP1 (fun x2_1 K_2 =>
  (Rg x2_1) ∧ (Rg (s 0 21)) ∧ (((s 0 21) ≤ x2_1) →
   Q (-1)) ∧
  ((x2_1 < (s 0 21)) →
   (0 ≤ x2_1) ∧ (x2_1 < 12) ∧ (Rg (s 11 x2_1)) ∧ (Rg a1) ∧ ((¬ (s 11 x2_1) = a1) →
    K_2 (x2_1 + 1)) ∧
   (((s 11 x2_1) = a1) →
    Q x2_1))) 0
def wp_X2_tellAlso (a1 : Int) (s : Sg) (Q : Sg → Prop) : Prop :=
  wp_X2_placeOf a1 s (fun r_1 =>
 (Rg r_1) ∧ ((¬ r_1 = (-1)) →
  Q s) ∧
 ((r_1 = (-1)) →
  (Rg (s 0 21)) ∧ JN1 (fun s_5 =>
   Q (up s_5 0 21 ((s_5 0 21) + 1)))
  (fun K_6 =>
   ((12 ≤ (s 0 21)) →
    K_6 s) ∧
   (((s 0 21) < 12) →
    (0 ≤ (s 0 21)) ∧ ((s 0 21) < 12) ∧ K_6 (up s 11 (s 0 21) a1)))))
def wp_X2_layTold (s : Sg) (Q : Sg → Prop) : Prop :=
  LP2 (fun x1_1 s_2 K_3 =>
  (Rg x1_1) ∧ (Rg (s_2 0 15)) ∧ (((s_2 0 15) ≤ x1_1) →
   Q s_2) ∧
  ((x1_1 < (s_2 0 15)) →
   LP2 (fun x2_7 s_8 K_9 =>
    (0 ≤ (8 * x1_1)) ∧ ((8 * x1_1) < 40) ∧ (Rg x2_7) ∧ (Rg (s_8 8 (8 * x1_1))) ∧ (((s_8 8 (8 * x1_1)) ≤ x2_7) →
     K_3 (x1_1 + 1) s_8) ∧
    ((x2_7 < (s_8 8 (8 * x1_1))) →
     (0 ≤ (((8 * x1_1) + 1) + x2_7)) ∧ ((((8 * x1_1) + 1) + x2_7) < 40) ∧ (0 ≤ (s_8 8 (((8 * x1_1) + 1) + x2_7))) ∧ ((s_8 8 (((8 * x1_1) + 1) + x2_7)) < 120) ∧ wp_X2_tellAlso (s_8 5 (s_8 8 (((8 * x1_1) + 1) + x2_7))) s_8 (fun s_20 =>
     K_9 (x2_7 + 1) s_20))) 0 s_2)) 0 (up s 0 21 0)
def wp_X2_sheet (a1 a2 a3 : Int) (s : Sg) (Q : Int → Sg → Prop) : Prop :=
  (Rg a1) ∧ wp_X2_in a1 1 6 (fun r_2 =>
 JN1 (fun v_4 =>
  LP2 (fun x5_7 x6_8 K_9 =>
   (Rg x6_8) ∧ JN0 ((Rg x5_7) ∧ ((¬ x5_7 = 0) →
     LP2 (fun x6_15 x7_16 K_17 =>
      (Rg x7_16) ∧ (Rg a1) ∧ ((a1 ≤ x7_16) →
       (Rg x6_15) ∧ ((¬ x6_15 = 0) →
        wp_X2_layTold s (fun s_23 =>
        LP3 (fun x7_24 x8_25 s_26 K_27 =>
         (Rg x8_25) ∧ (Rg a1) ∧ ((a1 ≤ x8_25) →
          (Rg (s_26 0 15)) ∧ (((s_26 0 15) = 5) →
           Q (-104) s_26) ∧
          ((¬ (s_26 0 15) = 5) →
           (Rg x7_24) ∧ ((¬ x7_24 = 0) →
            (0 ≤ (8 * (s_26 0 15))) ∧ ((8 * (s_26 0 15)) < 40) ∧ LP2 (fun x8_35 s_36 K_37 =>
             (Rg x8_35) ∧ (Rg a1) ∧ ((a1 ≤ x8_35) →
              (0 ≤ ((8 * (s_36 0 15)) + 7)) ∧ (((8 * (s_36 0 15)) + 7) < 40) ∧ Q ((up (up s_36 8 ((8 * (s_36 0 15)) + 7) a3) 0 15 (((up s_36 8 ((8 * (s_36 0 15)) + 7) a3) 0 15) + 1)) 0 15) (up (up s_36 8 ((8 * (s_36 0 15)) + 7) a3) 0 15 (((up s_36 8 ((8 * (s_36 0 15)) + 7) a3) 0 15) + 1))) ∧
             ((x8_35 < a1) →
              (0 ≤ (8 * x8_35)) ∧ ((8 * x8_35) < 64) ∧ (0 ≤ (((8 * (s_36 0 15)) + 1) + x8_35)) ∧ ((((8 * (s_36 0 15)) + 1) + x8_35) < 40) ∧ K_37 (x8_35 + 1) (up s_36 8 (((8 * (s_36 0 15)) + 1) + x8_35) ((a2 % 18446744073709551616 / 2 ^ ((8 * x8_35) : Int).toNat) % 2 ^ 8)))) 0 (up s_26 8 (8 * (s_26 0 15)) a1)) ∧
           ((x7_24 = 0) →
            Q (-104) s_26))) ∧
         ((x8_25 < a1) →
          (0 ≤ (8 * x8_25)) ∧ ((8 * x8_25) < 64) ∧ (0 ≤ ((a2 % 18446744073709551616 / 2 ^ ((8 * x8_25) : Int).toNat) % 2 ^ 8)) ∧ (((a2 % 18446744073709551616 / 2 ^ ((8 * x8_25) : Int).toNat) % 2 ^ 8) < 120) ∧ (Rg x7_24) ∧ JN1 (fun v_52 =>
           (Rg v_52) ∧ JN1 (fun s_56 =>
            K_27 v_52 (x8_25 + 1) s_56)
           (fun K_57 =>
            ((v_52 = 0) →
             K_57 s_26) ∧
            ((¬ v_52 = 0) →
             wp_X2_tellAlso (s_26 5 ((a2 % 18446744073709551616 / 2 ^ ((8 * x8_25) : Int).toNat) % 2 ^ 8)) s_26 (fun s_60 =>
             K_57 s_60))))
          (fun K_53 =>
           JN0 (K_53 0)
           (fun K_61 =>
            ((x7_24 = 0) →
             K_61) ∧
            ((¬ x7_24 = 0) →
             (Rg (s_26 0 21)) ∧ JN0 (K_53 1)
             (fun K_64 =>
              (((s_26 0 21) < 12) →
               K_64) ∧
              ((12 ≤ (s_26 0 21)) →
               wp_X2_placeOf (s_26 5 ((a2 % 18446744073709551616 / 2 ^ ((8 * x8_25) : Int).toNat) % 2 ^ 8)) s_26 (fun r_66 =>
               (Rg r_66) ∧ ((r_66 = (-1)) →
                K_61) ∧
               ((¬ r_66 = (-1)) →
                K_64))))))))) 1 0 s_23)) ∧
       ((x6_15 = 0) →
        Q (-101) s)) ∧
      ((x7_16 < a1) →
       (Rg x6_15) ∧ JN1 (fun v_70 =>
        K_17 v_70 (x7_16 + 1))
       (fun K_71 =>
        JN0 (K_71 0)
        (fun K_73 =>
         ((x6_15 = 0) →
          K_73) ∧
         ((¬ x6_15 = 0) →
          (0 ≤ (8 * x7_16)) ∧ ((8 * x7_16) < 64) ∧ wp_X2_isChord ((a2 % 18446744073709551616 / 2 ^ ((8 * x7_16) : Int).toNat) % 2 ^ 8) s (fun r_77 =>
          ((r_77 = 0) →
           K_73) ∧
          ((¬ r_77 = 0) →
           K_71 1))))))) 1 0) ∧
    ((x5_7 = 0) →
     Q (-102) s))
   (fun K_12 =>
    ((8 ≤ x6_8) →
     K_12) ∧
    ((x6_8 < 8) →
     (Rg x5_7) ∧ ((x5_7 = 0) →
      K_12) ∧
     ((¬ x5_7 = 0) →
      (Rg x6_8) ∧ (Rg a1) ∧ JN1 (fun v_82 =>
       K_9 v_82 (x6_8 + 1))
      (fun K_83 =>
       JN0 (K_83 1)
       (fun K_85 =>
        ((x6_8 < a1) →
         K_85) ∧
        ((a1 ≤ x6_8) →
         (0 ≤ (8 * x6_8)) ∧ ((8 * x6_8) < 64) ∧ (RgL ((a2 % 18446744073709551616 / 2 ^ ((8 * x6_8) : Int).toNat) % 2 ^ 8)) ∧ ((¬ ((a2 % 18446744073709551616 / 2 ^ ((8 * x6_8) : Int).toNat) % 2 ^ 8) = 0) →
          K_83 0) ∧
         ((((a2 % 18446744073709551616 / 2 ^ ((8 * x6_8) : Int).toNat) % 2 ^ 8) = 0) →
          K_85)))))))) v_4 0)
 (fun K_5 =>
  JN0 (K_5 0)
  (fun K_90 =>
   ((r_2 = 0) →
    K_90) ∧
   ((¬ r_2 = 0) →
    (Rg a3) ∧ wp_X2_in a3 0 6 (fun r_93 =>
    ((r_93 = 0) →
     K_90) ∧
    ((¬ r_93 = 0) →
     K_5 1))))))
def wp_X2_isReading (a1 : Int) (s : Sg) (Q : Int → Prop) : Prop :=
  LP2 (fun x2_1 x3_2 K_3 =>
  (Rg x3_2) ∧ (Rg (s 0 21)) ∧ (((s 0 21) ≤ x3_2) →
   LP2 (fun x2_7 x3_8 K_9 =>
    (Rg x3_8) ∧ (Rg (s 0 15)) ∧ (((s 0 15) ≤ x3_8) →
     ((x2_7 = 0 ∨ x2_7 = 1)) ∧ Q x2_7) ∧
    ((x3_8 < (s 0 15)) →
     (Rg x2_7) ∧ ((x2_7 = 0) →
      ((x2_7 = 0 ∨ x2_7 = 1)) ∧ Q x2_7) ∧
     ((¬ x2_7 = 0) →
      LP2 (fun x4_16 x5_17 K_18 =>
       (0 ≤ (8 * x3_8)) ∧ ((8 * x3_8) < 40) ∧ (Rg x5_17) ∧ (Rg (s 8 (8 * x3_8))) ∧ (((s 8 (8 * x3_8)) ≤ x5_17) →
        LP2 (fun x5_24 x6_25 K_26 =>
         (Rg x6_25) ∧ ((12 ≤ x6_25) →
          (0 ≤ ((8 * x3_8) + 7)) ∧ (((8 * x3_8) + 7) < 40) ∧ (Rg x5_24) ∧ (Rg (s 8 ((8 * x3_8) + 7))) ∧ JN1 (fun v_33 =>
           K_9 v_33 (x3_8 + 1))
          (fun K_34 =>
           ((¬ x5_24 = (s 8 ((8 * x3_8) + 7))) →
            K_34 0) ∧
           ((x5_24 = (s 8 ((8 * x3_8) + 7))) →
            K_34 1))) ∧
         ((x6_25 < 12) →
          (Rg x4_16) ∧ (0 ≤ x6_25) ∧ (x6_25 < 32) ∧ (Rg a1) ∧ (0 ≤ x6_25) ∧ (x6_25 < 32) ∧ (0 ≤ (x4_16 / 2 ^ (x6_25 : Int).toNat)) ∧ (0 ≤ (a1 / 2 ^ (x6_25 : Int).toNat)) ∧ (0 ≤ (band (x4_16 / 2 ^ (x6_25 : Int).toNat) (a1 / 2 ^ (x6_25 : Int).toNat))) ∧ K_26 (x5_24 + (band (band (x4_16 / 2 ^ (x6_25 : Int).toNat) (a1 / 2 ^ (x6_25 : Int).toNat)) 1)) (x6_25 + 1))) 0 0) ∧
       ((x5_17 < (s 8 (8 * x3_8))) →
        (0 ≤ (((8 * x3_8) + 1) + x5_17)) ∧ ((((8 * x3_8) + 1) + x5_17) < 40) ∧ (0 ≤ (s 8 (((8 * x3_8) + 1) + x5_17))) ∧ ((s 8 (((8 * x3_8) + 1) + x5_17)) < 120) ∧ wp_X2_placeOf (s 5 (s 8 (((8 * x3_8) + 1) + x5_17))) s (fun r_49 =>
        (0 ≤ r_49) ∧ (r_49 < 32) ∧ (0 ≤ x4_16) ∧ (0 ≤ ((1 : Int) * 2 ^ (r_49 : Int).toNat)) ∧ K_18 (bor x4_16 ((1 : Int) * 2 ^ (r_49 : Int).toNat)) (x5_17 + 1)))) 0 0))) x2_1 0) ∧
  ((x3_2 < (s 0 21)) →
   (Rg x2_1) ∧ JN1 (fun v_56 =>
    K_3 v_56 (x3_2 + 1))
   (fun K_57 =>
    JN0 (K_57 0)
    (fun K_59 =>
     ((x2_1 = 0) →
      K_59) ∧
     ((¬ x2_1 = 0) →
      (0 ≤ x3_2) ∧ (x3_2 < 12) ∧ wp_X2_isLeft (s 11 x3_2) s (fun r_63 =>
      JN0 (K_57 1)
      (fun K_65 =>
       ((¬ r_63 = 0) →
        K_65) ∧
       ((r_63 = 0) →
        (Rg a1) ∧ (0 ≤ x3_2) ∧ (x3_2 < 32) ∧ (0 ≤ (a1 / 2 ^ (x3_2 : Int).toNat)) ∧ (Rg (band (a1 / 2 ^ (x3_2 : Int).toNat) 1)) ∧ ((¬ (band (a1 / 2 ^ (x3_2 : Int).toNat) 1) = 1) →
         K_59) ∧
        (((band (a1 / 2 ^ (x3_2 : Int).toNat) 1) = 1) →
         K_65))))))))) 1 0
def wp_X2_layReadings (s : Sg) (Q : Sg → Prop) : Prop :=
  wp_X2_layTold s (fun s_2 =>
 LP2 (fun x1_3 s_4 K_5 =>
  (Rg x1_3) ∧ ((12 ≤ x1_3) →
   LP2 (fun x1_8 s_9 K_10 =>
    (0 ≤ (s_9 0 21)) ∧ ((s_9 0 21) < 32) ∧ (Rg x1_8) ∧ (Rg ((1 : Int) * 2 ^ ((s_9 0 21) : Int).toNat)) ∧ ((((1 : Int) * 2 ^ ((s_9 0 21) : Int).toNat) ≤ x1_8) →
     Q s_9) ∧
    ((x1_8 < ((1 : Int) * 2 ^ ((s_9 0 21) : Int).toNat)) →
     wp_X2_isReading x1_8 s_9 (fun r_16 =>
     JN1 (fun s_18 =>
      K_10 (x1_8 + 1) s_18)
     (fun K_19 =>
      ((r_16 = 0) →
       K_19 s_9) ∧
      ((¬ r_16 = 0) →
       LP2 (fun x2_21 s_22 K_23 =>
        (Rg x2_21) ∧ (Rg (s_22 0 21)) ∧ (((s_22 0 21) ≤ x2_21) →
         K_19 s_22) ∧
        ((x2_21 < (s_22 0 21)) →
         (0 ≤ x2_21) ∧ (x2_21 < 12) ∧ (Rg x1_8) ∧ (0 ≤ x2_21) ∧ (x2_21 < 32) ∧ (0 ≤ (x1_8 / 2 ^ (x2_21 : Int).toNat)) ∧ (Rg (band (x1_8 / 2 ^ (x2_21 : Int).toNat) 1)) ∧ JN1 (fun v_34 =>
          (0 ≤ x2_21) ∧ (x2_21 < 12) ∧ K_23 (x2_21 + 1) (up s_22 12 x2_21 ((s_22 12 x2_21) + v_34)))
         (fun K_35 =>
          ((¬ (band (x1_8 / 2 ^ (x2_21 : Int).toNat) 1) = 0) →
           K_35 0) ∧
          (((band (x1_8 / 2 ^ (x2_21 : Int).toNat) 1) = 0) →
           K_35 1)))) 0 (up s_9 0 22 ((s_9 0 22) + 1))))))) 0 s_4) ∧
  ((x1_3 < 12) →
   (0 ≤ x1_3) ∧ (x1_3 < 12) ∧ K_5 (x1_3 + 1) (up s_4 12 x1_3 0))) 0 (up s_2 0 22 0))
def wp_X2_readings (s : Sg) (Q : Int → Sg → Prop) : Prop :=
  wp_X2_layReadings s (fun s_2 =>
 Q (s_2 0 22) s_2)
def wp_X2_sureNow (a1 : Int) (s : Sg) (Q : Int → Prop) : Prop :=
  (0 ≤ a1) ∧ (a1 < 120) ∧ wp_X2_placeOf (s 5 a1) s (fun r_3 =>
 (Rg r_3) ∧ ((r_3 = (-1)) →
  wp_X2_asOf a1 s (fun r_6 =>
  (Rg r_6) ∧ ((¬ r_6 = (-1)) →
   Q 0) ∧
  ((r_6 = (-1)) →
   Q (s 0 22)))) ∧
 ((¬ r_3 = (-1)) →
  (0 ≤ r_3) ∧ (r_3 < 12) ∧ Q (s 12 r_3)))
def wp_X2_sure (a1 : Int) (s : Sg) (Q : Int → Sg → Prop) : Prop :=
  wp_X2_isChord a1 s (fun r_1 =>
 ((¬ r_1 = 0) →
  wp_X2_layReadings s (fun s_4 =>
  wp_X2_sureNow a1 s_4 (fun r_5 =>
  Q r_5 s_4))) ∧
 ((r_1 = 0) →
  Q (-101) s))
def wp_X2_surestOf (s : Sg) (Q : Int → Sg → Prop) : Prop :=
  wp_X2_layReadings s (fun s_2 =>
 LP3 (fun x1_3 x2_4 x3_5 K_6 =>
  (Rg x3_5) ∧ (Rg (s_2 0 8)) ∧ (((s_2 0 8) ≤ x3_5) →
   Q x1_3 s_2) ∧
  ((x3_5 < (s_2 0 8)) →
   (Rg (s_2 0 22)) ∧ (((s_2 0 22) ≤ 0) →
    Q x1_3 s_2) ∧
   ((0 < (s_2 0 22)) →
    wp_X2_sureNow x3_5 s_2 (fun r_11 =>
    (Rg r_11) ∧ (Rg x2_4) ∧ JN1 (fun v_15 =>
     (Rg r_11) ∧ (Rg x2_4) ∧ JN1 (fun v_20 =>
      K_6 v_15 v_20 (x3_5 + 1))
     (fun K_21 =>
      ((r_11 ≤ x2_4) →
       K_21 x2_4) ∧
      ((x2_4 < r_11) →
       K_21 r_11)))
    (fun K_16 =>
     ((r_11 ≤ x2_4) →
      K_16 x1_3) ∧
     ((x2_4 < r_11) →
      K_16 x3_5)))))) (-1) (-1) 0)
def wp_X2_surest (s : Sg) (Q : Int → Sg → Prop) : Prop :=
  wp_X2_surestOf s (fun r_1 s_2 =>
 Q r_1 s_2)
def wp_X2_ones (a1 : Int) (Q : Int → Prop) : Prop :=
  LP2 (fun x1_1 x2_2 K_3 =>
  (Rg x2_2) ∧ ((10 ≤ x2_2) →
   Q x1_1) ∧
  ((x2_2 < 10) →
   (Rg a1) ∧ (0 ≤ x2_2) ∧ (x2_2 < 32) ∧ (0 ≤ (a1 / 2 ^ (x2_2 : Int).toNat)) ∧ K_3 (x1_1 + (band (a1 / 2 ^ (x2_2 : Int).toNat) 1)) (x2_2 + 1))) 0 0
def wp_X2_mayTake (a1 a2 : Int) (s : Sg) (Q : Int → Prop) : Prop :=
  (0 ≤ a2) ∧ (a2 < 120) ∧ (Rg a1) ∧ (0 ≤ (s 5 a2)) ∧ ((s 5 a2) < 32) ∧ (0 ≤ (a1 / 2 ^ ((s 5 a2) : Int).toNat)) ∧ (Rg (band (a1 / 2 ^ ((s 5 a2) : Int).toNat) 1)) ∧ ((¬ (band (a1 / 2 ^ ((s 5 a2) : Int).toNat) 1) = 0) →
  Q 0) ∧
 (((band (a1 / 2 ^ ((s 5 a2) : Int).toNat) 1) = 0) →
  wp_X2_asOf a2 s (fun r_8 =>
  (Rg r_8) ∧ ((¬ r_8 = (-1)) →
   Q 0) ∧
  ((r_8 = (-1)) →
   Q 1)))
def wp_X2_inCommon (a1 a2 : Int) (s : Sg) (Q : Int → Prop) : Prop :=
  LP2 (fun x3_1 x4_2 K_3 =>
  (Rg x4_2) ∧ ((3 ≤ x4_2) →
   Q x3_1) ∧
  ((x4_2 < 3) →
   LP2 (fun x3_6 x5_7 K_8 =>
    (Rg x5_7) ∧ ((3 ≤ x5_7) →
     K_3 x3_6 (x4_2 + 1)) ∧
    ((x5_7 < 3) →
     (0 ≤ ((3 * a1) + x4_2)) ∧ (((3 * a1) + x4_2) < 252) ∧ (0 ≤ ((3 * a2) + x5_7)) ∧ (((3 * a2) + x5_7) < 252) ∧ (Rg (s 4 ((3 * a1) + x4_2))) ∧ (Rg (s 4 ((3 * a2) + x5_7))) ∧ JN1 (fun v_17 =>
      K_8 (x3_6 + v_17) (x5_7 + 1))
     (fun K_18 =>
      ((¬ (s 4 ((3 * a1) + x4_2)) = (s 4 ((3 * a2) + x5_7))) →
       K_18 0) ∧
      (((s 4 ((3 * a1) + x4_2)) = (s 4 ((3 * a2) + x5_7))) →
       K_18 1)))) x3_1 0)) 0 0
def wp_X2_longest (s : Sg) (Q : Int → Sg → Prop) : Prop :=
  (Rg (s 0 10)) ∧ ((10 < (s 0 10)) →
  Q (-103) s) ∧
 (((s 0 10) ≤ 10) →
  (Rg (s 0 24)) ∧ ((¬ (s 0 24) = 30) →
   LP2 (fun x1_3 s_4 K_5 =>
    (0 ≤ (s_4 0 10)) ∧ ((s_4 0 10) < 32) ∧ (Rg x1_3) ∧ (Rg ((84 : Int) * 2 ^ ((s_4 0 10) : Int).toNat)) ∧ ((((84 : Int) * 2 ^ ((s_4 0 10) : Int).toNat) ≤ x1_3) →
     LP2 (fun x1_11 s_12 K_13 =>
      (Rg x1_11) ∧ (Rg (s_12 0 8)) ∧ (((s_12 0 8) ≤ x1_11) →
       LP3 (fun x1_17 x2_18 s_19 K_20 =>
        (0 ≤ (s_19 0 10)) ∧ ((s_19 0 10) < 32) ∧ (Rg x2_18) ∧ (Rg ((1 : Int) * 2 ^ ((s_19 0 10) : Int).toNat)) ∧ ((((1 : Int) * 2 ^ ((s_19 0 10) : Int).toNat) ≤ x2_18) →
         Q x1_17 s_19) ∧
        ((x2_18 < ((1 : Int) * 2 ^ ((s_19 0 10) : Int).toNat)) →
         LP3 (fun x1_26 x3_27 s_28 K_29 =>
          (Rg x3_27) ∧ (Rg (s_28 0 8)) ∧ (((s_28 0 8) ≤ x3_27) →
           K_20 x1_26 (x2_18 + 1) s_28) ∧
          ((x3_27 < (s_28 0 8)) →
           (0 ≤ ((84 * x2_18) + x3_27)) ∧ (((84 * x2_18) + x3_27) < 86016) ∧ (Rg (s_28 13 ((84 * x2_18) + x3_27))) ∧ JN2 (fun x1_36 s_37 =>
            K_29 x1_36 (x3_27 + 1) s_37)
           (fun K_38 =>
            ((¬ (s_28 13 ((84 * x2_18) + x3_27)) = 1) →
             K_38 x1_26 s_28) ∧
            (((s_28 13 ((84 * x2_18) + x3_27)) = 1) →
             wp_X2_ones x2_18 (fun r_40 =>
             (Rg r_40) ∧ (Rg x1_26) ∧ JN1 (fun v_44 =>
              LP2 (fun x4_47 s_48 K_49 =>
               (Rg x4_47) ∧ (Rg (s_48 0 8)) ∧ (((s_48 0 8) ≤ x4_47) →
                K_38 v_44 s_48) ∧
               ((x4_47 < (s_48 0 8)) →
                wp_X2_mayTake x2_18 x4_47 s_48 (fun r_53 =>
                JN1 (fun s_55 =>
                 K_49 (x4_47 + 1) s_55)
                (fun K_56 =>
                 ((r_53 = 0) →
                  K_56 s_48) ∧
                 ((¬ r_53 = 0) →
                  wp_X2_inCommon x3_27 x4_47 s_48 (fun r_58 =>
                  (Rg r_58) ∧ ((¬ r_58 = 2) →
                   K_56 s_48) ∧
                  ((r_58 = 2) →
                   (0 ≤ x4_47) ∧ (x4_47 < 120) ∧ (0 ≤ (s_48 5 x4_47)) ∧ ((s_48 5 x4_47) < 32) ∧ (0 ≤ x2_18) ∧ (0 ≤ ((1 : Int) * 2 ^ ((s_48 5 x4_47) : Int).toNat)) ∧ (0 ≤ ((84 * (bor x2_18 ((1 : Int) * 2 ^ ((s_48 5 x4_47) : Int).toNat))) + x4_47)) ∧ (((84 * (bor x2_18 ((1 : Int) * 2 ^ ((s_48 5 x4_47) : Int).toNat))) + x4_47) < 86016) ∧ K_56 (up s_48 13 ((84 * (bor x2_18 ((1 : Int) * 2 ^ ((s_48 5 x4_47) : Int).toNat))) + x4_47) 1)))))))) 0 s_28)
             (fun K_45 =>
              ((r_40 ≤ x1_26) →
               K_45 x1_26) ∧
              ((x1_26 < r_40) →
               wp_X2_ones x2_18 (fun r_69 =>
               K_45 r_69)))))))) x1_17 0 s_19)) 0 1 s_12) ∧
      ((x1_11 < (s_12 0 8)) →
       wp_X2_mayTake 0 x1_11 s_12 (fun r_71 =>
       JN1 (fun s_73 =>
        K_13 (x1_11 + 1) s_73)
       (fun K_74 =>
        ((r_71 = 0) →
         K_74 s_12) ∧
        ((¬ r_71 = 0) →
         (0 ≤ x1_11) ∧ (x1_11 < 120) ∧ (0 ≤ (s_12 5 x1_11)) ∧ ((s_12 5 x1_11) < 32) ∧ (0 ≤ ((84 * ((1 : Int) * 2 ^ ((s_12 5 x1_11) : Int).toNat)) + x1_11)) ∧ (((84 * ((1 : Int) * 2 ^ ((s_12 5 x1_11) : Int).toNat)) + x1_11) < 86016) ∧ K_74 (up s_12 13 ((84 * ((1 : Int) * 2 ^ ((s_12 5 x1_11) : Int).toNat)) + x1_11) 1)))))) 0 s_4) ∧
    ((x1_3 < ((84 : Int) * 2 ^ ((s_4 0 10) : Int).toNat)) →
     (0 ≤ x1_3) ∧ (x1_3 < 86016) ∧ K_5 (x1_3 + 1) (up s_4 13 x1_3 0))) 0 (up s 0 24 ((s 0 24) + 1))) ∧
  (((s 0 24) = 30) →
   Q (-103) s))
def wp_X2_isGood (a1 a2 : Int) (s : Sg) (Q : Int → Prop) : Prop :=
  wp_X2_mayTake a1 a2 s (fun r_1 =>
 ((r_1 = 0) →
  Q 0) ∧
 ((¬ r_1 = 0) →
  (0 ≤ a2) ∧ (a2 < 120) ∧ (0 ≤ (s 5 a2)) ∧ ((s 5 a2) < 32) ∧ (0 ≤ a1) ∧ (0 ≤ ((1 : Int) * 2 ^ ((s 5 a2) : Int).toNat)) ∧ (0 ≤ ((84 * (bor a1 ((1 : Int) * 2 ^ ((s 5 a2) : Int).toNat))) + a2)) ∧ (((84 * (bor a1 ((1 : Int) * 2 ^ ((s 5 a2) : Int).toNat))) + a2) < 86016) ∧ (Rg (s 13 ((84 * (bor a1 ((1 : Int) * 2 ^ ((s 5 a2) : Int).toNat))) + a2))) ∧ ((¬ (s 13 ((84 * (bor a1 ((1 : Int) * 2 ^ ((s 5 a2) : Int).toNat))) + a2)) = 0) →
   Q 0) ∧
  (((s 13 ((84 * (bor a1 ((1 : Int) * 2 ^ ((s 5 a2) : Int).toNat))) + a2)) = 0) →
   Q 1)))
def wp_X2_game (a1 a2 : Int) (s : Sg) (Q : Int → Sg → Prop) : Prop :=
  (Rg a1) ∧ wp_X2_in a1 0 2 (fun r_2 =>
 ((r_2 = 0) →
  Q (-102) s) ∧
 ((¬ r_2 = 0) →
  (Rg a2) ∧ wp_X2_in a2 0 1 (fun r_5 =>
  ((¬ r_5 = 0) →
   (Rg (s 0 10)) ∧ ((10 < (s 0 10)) →
    Q (-103) s) ∧
   (((s 0 10) ≤ 10) →
    (Rg (s 0 24)) ∧ ((¬ (s 0 24) = 30) →
     (0 ≤ ((up s 0 24 ((s 0 24) + 1)) 0 10)) ∧ (((up s 0 24 ((s 0 24) + 1)) 0 10) < 32) ∧ LP2 (fun x3_11 s_12 K_13 =>
      (Rg x3_11) ∧ ((x3_11 ≤ 0) →
       LP2 (fun x3_16 x4_17 K_18 =>
        (Rg x4_17) ∧ ((x4_17 < 0) →
         (Rg a2) ∧ ((¬ a2 = 1) →
          (Rg x3_16) ∧ ((¬ x3_16 = (-1)) →
           Q 1 s_12) ∧
          ((x3_16 = (-1)) →
           Q 0 s_12)) ∧
         ((a2 = 1) →
          Q x3_16 s_12)) ∧
        ((0 ≤ x4_17) →
         wp_X2_isGood 0 x4_17 s_12 (fun r_23 =>
         JN1 (fun v_25 =>
          K_18 v_25 (x4_17 + (-1)))
         (fun K_26 =>
          ((r_23 = 0) →
           K_26 x3_16) ∧
          ((¬ r_23 = 0) →
           K_26 x4_17))))) (-1) ((s_12 0 8) - 1)) ∧
      ((0 < x3_11) →
       LP2 (fun x4_28 s_29 K_30 =>
        (Rg x4_28) ∧ (Rg (s_29 0 8)) ∧ (((s_29 0 8) ≤ x4_28) →
         K_13 (x3_11 + (-1)) s_29) ∧
        ((x4_28 < (s_29 0 8)) →
         LP2 (fun x5_34 x6_35 K_36 =>
          (Rg x6_35) ∧ (Rg (s_29 0 8)) ∧ JN0 ((0 ≤ ((84 * x3_11) + x4_28)) ∧ (((84 * x3_11) + x4_28) < 86016) ∧ K_30 (x4_28 + 1) (up s_29 13 ((84 * x3_11) + x4_28) x5_34))
          (fun K_40 =>
           (((s_29 0 8) ≤ x6_35) →
            K_40) ∧
           ((x6_35 < (s_29 0 8)) →
            (Rg x5_34) ∧ ((¬ x5_34 = 0) →
             K_40) ∧
            ((x5_34 = 0) →
             wp_X2_inCommon x6_35 x4_28 s_29 (fun r_45 =>
             (Rg r_45) ∧ (Rg a1) ∧ JN1 (fun v_49 =>
              K_36 v_49 (x6_35 + 1))
             (fun K_50 =>
              JN0 (K_50 0)
              (fun K_52 =>
               ((¬ r_45 = a1) →
                K_52) ∧
               ((r_45 = a1) →
                wp_X2_isGood x3_11 x6_35 s_29 (fun r_54 =>
                ((r_54 = 0) →
                 K_52) ∧
                ((¬ r_54 = 0) →
                 K_50 1)))))))))) 0 0)) 0 s_12)) (((1 : Int) * 2 ^ (((up s 0 24 ((s 0 24) + 1)) 0 10) : Int).toNat) - 1) (up s 0 24 ((s 0 24) + 1))) ∧
    (((s 0 24) = 30) →
     Q (-103) s))) ∧
  ((r_5 = 0) →
   Q (-102) s))))
def wp_X2_brokenOf (a1 : Int) (s : Sg) (Q : Int → Prop) : Prop :=
  LP2 (fun x2_1 x3_2 K_3 =>
  (Rg x3_2) ∧ (Rg (s 0 10)) ∧ (((s 0 10) ≤ x3_2) →
   Q x2_1) ∧
  ((x3_2 < (s 0 10)) →
   LP2 (fun x4_7 x5_8 K_9 =>
    (Rg x5_8) ∧ (Rg (s 0 8)) ∧ JN0 ((Rg x4_7) ∧ JN1 (fun v_16 =>
      K_3 (x2_1 + v_16) (x3_2 + 1))
     (fun K_17 =>
      ((x4_7 = 0) →
       K_17 0) ∧
      ((¬ x4_7 = 0) →
       K_17 1)))
    (fun K_13 =>
     (((s 0 8) ≤ x5_8) →
      K_13) ∧
     ((x5_8 < (s 0 8)) →
      (Rg x4_7) ∧ ((¬ x4_7 = 0) →
       K_13) ∧
      ((x4_7 = 0) →
       (0 ≤ (3 * x5_8)) ∧ ((3 * x5_8) < 252) ∧ (Rg (s 4 (3 * x5_8))) ∧ (Rg a1) ∧ JN1 (fun v_24 =>
        (0 ≤ x5_8) ∧ (x5_8 < 120) ∧ (Rg (s 5 x5_8)) ∧ (Rg x3_2) ∧ JN1 (fun v_31 =>
         K_9 v_31 (x5_8 + 1))
        (fun K_32 =>
         JN0 (K_32 0)
         (fun K_34 =>
          ((¬ (s 5 x5_8) = x3_2) →
           K_34) ∧
          (((s 5 x5_8) = x3_2) →
           (Rg v_24) ∧ ((v_24 = 0) →
            K_34) ∧
           ((¬ v_24 = 0) →
            wp_X2_isLeft x3_2 s (fun r_37 =>
            ((r_37 = 0) →
             K_34) ∧
            ((¬ r_37 = 0) →
             K_32 1)))))))
       (fun K_25 =>
        JN0 (K_25 0)
        (fun K_39 =>
         (((s 4 (3 * x5_8)) = a1) →
          K_39) ∧
         ((¬ (s 4 (3 * x5_8)) = a1) →
          (0 ≤ ((3 * x5_8) + 1)) ∧ (((3 * x5_8) + 1) < 252) ∧ (Rg (s 4 ((3 * x5_8) + 1))) ∧ (Rg a1) ∧ (((s 4 ((3 * x5_8) + 1)) = a1) →
           K_39) ∧
          ((¬ (s 4 ((3 * x5_8) + 1)) = a1) →
           (0 ≤ ((3 * x5_8) + 2)) ∧ (((3 * x5_8) + 2) < 252) ∧ (Rg (s 4 ((3 * x5_8) + 2))) ∧ (Rg a1) ∧ (((s 4 ((3 * x5_8) + 2)) = a1) →
            K_39) ∧
           ((¬ (s 4 ((3 * x5_8) + 2)) = a1) →
            K_25 1))))))))) 0 0)) 0 0
def wp_X2_broken (a1 : Int) (s : Sg) (Q : Int → Prop) : Prop :=
  wp_X2_isString a1 s (fun r_1 =>
 ((r_1 = 0) →
  Q (-101)) ∧
 ((¬ r_1 = 0) →
  wp_X2_brokenOf a1 s (fun r_3 =>
  Q r_3)))
def wp_X2_added (s : Sg) (Q : Int → Sg → Prop) : Prop :=
  (Rg (s 0 7)) ∧ ((¬ (s 0 7) = 9) →
  wp_X2_laySorts 14 ((s 0 7) + 1) s (fun r_2 s_3 =>
  LP2 (fun x2_4 s_5 K_6 =>
   (Rg x2_4) ∧ (Rg r_2) ∧ ((r_2 ≤ x2_4) →
    LP2 (fun x2_10 s_11 K_12 =>
     (Rg x2_10) ∧ (Rg (s_11 0 13)) ∧ (((s_11 0 13) ≤ x2_10) →
      LP2 (fun x2_16 x3_17 K_18 =>
       (Rg x3_17) ∧ (Rg r_2) ∧ ((r_2 ≤ x3_17) →
        Q x2_16 s_11) ∧
       ((x3_17 < r_2) →
        (0 ≤ x3_17) ∧ (x3_17 < 120) ∧ K_18 (x2_16 + (1 - (s_11 15 x3_17))) (x3_17 + 1))) 0 0) ∧
     ((x2_10 < (s_11 0 13)) →
      (0 ≤ x2_10) ∧ (x2_10 < 20) ∧ (0 ≤ (3 * (s_11 7 x2_10))) ∧ ((3 * (s_11 7 x2_10)) < 252) ∧ (0 ≤ ((3 * (s_11 7 x2_10)) + 1)) ∧ (((3 * (s_11 7 x2_10)) + 1) < 252) ∧ (0 ≤ ((3 * (s_11 7 x2_10)) + 2)) ∧ (((3 * (s_11 7 x2_10)) + 2) < 252) ∧ wp_X2_numberOf (s_11 4 (3 * (s_11 7 x2_10))) (s_11 4 ((3 * (s_11 7 x2_10)) + 1)) (s_11 4 ((3 * (s_11 7 x2_10)) + 2)) ((s_11 0 7) + 1) (fun r_32 =>
      (0 ≤ r_32) ∧ (r_32 < 120) ∧ (0 ≤ (s_11 14 r_32)) ∧ ((s_11 14 r_32) < 120) ∧ K_12 (x2_10 + 1) (up s_11 15 (s_11 14 r_32) 1)))) 0 s_5) ∧
   ((x2_4 < r_2) →
    (0 ≤ x2_4) ∧ (x2_4 < 120) ∧ K_6 (x2_4 + 1) (up s_5 15 x2_4 0))) 0 s_3)) ∧
 (((s 0 7) = 9) →
  Q (-103) s)
def wp_X2_houseOf (a1 a2 : Int) (s : Sg) (Q : Int → Prop) : Prop :=
  (0 ≤ (3 * a1)) ∧ ((3 * a1) < 252) ∧ (0 ≤ ((3 * a1) + 1)) ∧ (((3 * a1) + 1) < 252) ∧ (0 ≤ ((3 * a1) + 2)) ∧ (((3 * a1) + 2) < 252) ∧ (Rg (((s 4 (3 * a1)) + (s 4 ((3 * a1) + 1))) + (s 4 ((3 * a1) + 2)))) ∧ (Rg a2) ∧ (0 ≤ (((s 4 (3 * a1)) + (s 4 ((3 * a1) + 1))) + (s 4 ((3 * a1) + 2)))) ∧ (0 < a2) ∧ Q ((((s 4 (3 * a1)) + (s 4 ((3 * a1) + 1))) + (s 4 ((3 * a1) + 2))) % a2)
def wp_X2_planOf (a1 a2 : Int) (s : Sg) (Q : Int → Prop) : Prop :=
  LP3 (fun x3_1 x4_2 x5_3 K_4 =>
  (Rg x5_3) ∧ (Rg a1) ∧ ((a1 ≤ x5_3) →
   (Rg a2) ∧ ((¬ a2 = 0) →
    Q x4_2) ∧
   ((a2 = 0) →
    (Rg x3_1) ∧ ((x3_1 = 0) →
     Q 0) ∧
    ((¬ x3_1 = 0) →
     Q 1))) ∧
  ((x5_3 < a1) →
   LP3 (fun x3_10 x6_11 x7_12 K_13 =>
    (Rg x7_12) ∧ (Rg (s 0 8)) ∧ (((s 0 8) ≤ x7_12) →
     (Rg x6_11) ∧ (Rg x4_2) ∧ JN1 (fun v_19 =>
      K_4 x3_10 v_19 (x5_3 + 1))
     (fun K_20 =>
      ((x4_2 ≤ x6_11) →
       K_20 x4_2) ∧
      ((x6_11 < x4_2) →
       K_20 x6_11))) ∧
    ((x7_12 < (s 0 8)) →
     wp_X2_houseOf x7_12 a1 s (fun r_22 =>
     (Rg r_22) ∧ (Rg x5_3) ∧ JN1 (fun v_26 =>
      (Rg x3_10) ∧ JN1 (fun v_30 =>
       K_13 v_30 (x6_11 + v_26) (x7_12 + 1))
      (fun K_31 =>
       JN0 (K_31 0)
       (fun K_33 =>
        ((x3_10 = 0) →
         K_33) ∧
        ((¬ x3_10 = 0) →
         wp_X2_houseOf x7_12 a1 s (fun r_35 =>
         (0 ≤ x7_12) ∧ (x7_12 < 120) ∧ (0 ≤ (s 5 x7_12)) ∧ ((s 5 x7_12) < 120) ∧ wp_X2_houseOf (s 6 (s 5 x7_12)) a1 s (fun r_41 =>
         (Rg r_35) ∧ (Rg r_41) ∧ ((¬ r_35 = r_41) →
          K_33) ∧
         ((r_35 = r_41) →
          K_31 1)))))))
     (fun K_27 =>
      ((¬ r_22 = x5_3) →
       K_27 0) ∧
      ((r_22 = x5_3) →
       K_27 1))))) x3_1 0 0)) 1 (s 0 8) 0
def wp_X2_plan (a1 a2 : Int) (s : Sg) (Q : Int → Prop) : Prop :=
  (Rg a1) ∧ wp_X2_in a1 2 9 (fun r_2 =>
 ((r_2 = 0) →
  Q (-102)) ∧
 ((¬ r_2 = 0) →
  (Rg a2) ∧ wp_X2_in a2 0 1 (fun r_5 =>
  ((r_5 = 0) →
   Q (-102)) ∧
  ((¬ r_5 = 0) →
   wp_X2_planOf a1 a2 s (fun r_7 =>
   Q r_7)))))
def wp_X2_image (s : Sg) (Q : Int → Sg → Prop) : Prop :=
  LP2 (fun x1_1 s_2 K_3 =>
  (Rg x1_1) ∧ ((20 ≤ x1_1) →
   LP2 (fun x1_6 s_7 K_8 =>
    (Rg x1_6) ∧ ((40 ≤ x1_6) →
     Q ((up (up (up s_7 0 28 (s_7 0 13)) 0 29 ((up s_7 0 28 (s_7 0 13)) 0 15)) 0 30 ((up (up s_7 0 28 (s_7 0 13)) 0 29 ((up s_7 0 28 (s_7 0 13)) 0 15)) 0 17)) 0 13) (up (up (up s_7 0 28 (s_7 0 13)) 0 29 ((up s_7 0 28 (s_7 0 13)) 0 15)) 0 30 ((up (up s_7 0 28 (s_7 0 13)) 0 29 ((up s_7 0 28 (s_7 0 13)) 0 15)) 0 17))) ∧
    ((x1_6 < 40) →
     (0 ≤ x1_6) ∧ (x1_6 < 40) ∧ (0 ≤ x1_6) ∧ (x1_6 < 40) ∧ K_8 (x1_6 + 1) (up s_7 17 x1_6 (s_7 8 x1_6)))) 0 s_2) ∧
  ((x1_1 < 20) →
   (0 ≤ x1_1) ∧ (x1_1 < 20) ∧ (0 ≤ x1_1) ∧ (x1_1 < 20) ∧ K_3 (x1_1 + 1) (up s_2 16 x1_1 (s_2 7 x1_1)))) 0 s
def wp_X2_restore (s : Sg) (Q : Int → Sg → Prop) : Prop :=
  (Rg (s 0 28)) ∧ (((s 0 28) = (-1)) →
  Q (-103) s) ∧
 ((¬ (s 0 28) = (-1)) →
  (Rg (s 0 30)) ∧ (Rg (s 0 17)) ∧ (((s 0 30) = (s 0 17)) →
   LP2 (fun x1_4 s_5 K_6 =>
    (Rg x1_4) ∧ ((20 ≤ x1_4) →
     LP2 (fun x1_9 s_10 K_11 =>
      (Rg x1_9) ∧ ((40 ≤ x1_9) →
       Q ((up (up s_10 0 13 (s_10 0 28)) 0 15 ((up s_10 0 13 (s_10 0 28)) 0 29)) 0 13) (up (up s_10 0 13 (s_10 0 28)) 0 15 ((up s_10 0 13 (s_10 0 28)) 0 29))) ∧
      ((x1_9 < 40) →
       (0 ≤ x1_9) ∧ (x1_9 < 40) ∧ (0 ≤ x1_9) ∧ (x1_9 < 40) ∧ K_11 (x1_9 + 1) (up s_10 8 x1_9 (s_10 17 x1_9)))) 0 s_5) ∧
    ((x1_4 < 20) →
     (0 ≤ x1_4) ∧ (x1_4 < 20) ∧ (0 ≤ x1_4) ∧ (x1_4 < 20) ∧ K_6 (x1_4 + 1) (up s_5 7 x1_4 (s_5 16 x1_4)))) 0 s) ∧
  ((¬ (s 0 30) = (s 0 17)) →
   Q (-103) s))
def wp_X2_countOf (a1 : Int) (s : Sg) (Q : Int → Prop) : Prop :=
  (Rg a1) ∧ ((a1 = 0) →
  Q (s 0 7)) ∧
 ((a1 = 1) →
  Q (s 0 8)) ∧
 ((a1 = 2) →
  Q (s 0 2)) ∧
 ((a1 = 3) →
  Q (s 0 10)) ∧
 ((a1 = 4) →
  Q (s 0 13)) ∧
 ((a1 = 5) →
  Q (s 0 15)) ∧
 ((a1 = 6) →
  Q (s 0 1)) ∧
 ((a1 = 7) →
  Q (s 0 24)) ∧
 ((a1 < 0 ∨ 7 < a1) →
  Q (-102))
def wp_X2_count (a1 : Int) (s : Sg) (Q : Int → Prop) : Prop :=
  wp_X2_countOf a1 s (fun r_1 =>
 Q r_1)
def wp_X2_say (a1 : Int) (s : Sg) (Q : Sg → Prop) : Prop :=
  Q (up s 0 33 ((31 * (s 0 33)) + a1))
def wp_X2_digest (s : Sg) (Q : Int → Sg → Prop) : Prop :=
  LP2 (fun x1_1 s_2 K_3 =>
  (Rg x1_1) ∧ (Rg (2 * (s_2 0 2))) ∧ (((2 * (s_2 0 2)) ≤ x1_1) →
   LP2 (fun x1_7 s_8 K_9 =>
    (Rg x1_7) ∧ (Rg (s_8 0 8)) ∧ (((s_8 0 8) ≤ x1_7) →
     LP2 (fun x1_13 s_14 K_15 =>
      (Rg x1_13) ∧ (Rg (s_14 0 10)) ∧ (((s_14 0 10) ≤ x1_13) →
       wp_X2_leftOf 0 s_14 (fun r_19 =>
       (Rg r_19) ∧ wp_X2_say r_19 s_14 (fun s_23 =>
       wp_X2_leftOf 1 s_23 (fun r_24 =>
       (Rg r_24) ∧ wp_X2_say r_24 s_23 (fun s_28 =>
       wp_X2_surestOf s_28 (fun r_29 s_30 =>
       (Rg (s_30 0 22)) ∧ wp_X2_say (s_30 0 22) s_30 (fun s_33 =>
       (Rg r_29) ∧ wp_X2_say r_29 s_33 (fun s_36 =>
       LP2 (fun x2_37 s_38 K_39 =>
        (Rg x2_37) ∧ (Rg (s_38 0 7)) ∧ (((s_38 0 7) ≤ x2_37) →
         LP2 (fun x2_43 s_44 K_45 =>
          (Rg x2_43) ∧ ((10 ≤ x2_43) →
           LP2 (fun x2_48 s_49 K_50 =>
            (Rg x2_48) ∧ (Rg (s_49 0 1)) ∧ (((s_49 0 1) ≤ x2_48) →
             LP2 (fun x2_54 s_55 K_56 =>
              (Rg x2_54) ∧ ((8 ≤ x2_54) →
               Q (s_55 0 33) s_55) ∧
              ((x2_54 < 8) →
               wp_X2_countOf x2_54 s_55 (fun r_59 =>
               (Rg r_59) ∧ wp_X2_say r_59 s_55 (fun s_63 =>
               K_56 (x2_54 + 1) s_63)))) 0 s_49) ∧
            ((x2_48 < (s_49 0 1)) →
             (0 ≤ x2_48) ∧ (x2_48 < 20) ∧ (Rg (s_49 1 x2_48)) ∧ wp_X2_say (s_49 1 x2_48) s_49 (fun s_68 =>
             K_50 (x2_48 + 1) s_68))) 0 s_44) ∧
          ((x2_43 < 10) →
           wp_X2_planOf x2_43 0 s_44 (fun r_69 =>
           (Rg r_69) ∧ wp_X2_say r_69 s_44 (fun s_73 =>
           wp_X2_planOf x2_43 1 s_73 (fun r_74 =>
           (Rg r_74) ∧ wp_X2_say r_74 s_73 (fun s_78 =>
           K_45 (x2_43 + 1) s_78)))))) 2 s_38) ∧
        ((x2_37 < (s_38 0 7)) →
         wp_X2_brokenOf x2_37 s_38 (fun r_79 =>
         (Rg r_79) ∧ wp_X2_say r_79 s_38 (fun s_83 =>
         K_39 (x2_37 + 1) s_83)))) 0 s_36)))))))) ∧
      ((x1_13 < (s_14 0 10)) →
       LP2 (fun x2_84 s_85 K_86 =>
        (Rg x2_84) ∧ ((3 ≤ x2_84) →
         K_15 (x1_13 + 1) s_85) ∧
        ((x2_84 < 3) →
         wp_X2_tellSort x1_13 x2_84 s_85 (fun r_89 =>
         (Rg r_89) ∧ wp_X2_say r_89 s_85 (fun s_93 =>
         K_86 (x2_84 + 1) s_93)))) 0 s_14)) 0 s_8) ∧
    ((x1_7 < (s_8 0 8)) →
     (0 ≤ x1_7) ∧ (x1_7 < 120) ∧ (Rg (s_8 5 x1_7)) ∧ wp_X2_say (s_8 5 x1_7) s_8 (fun s_98 =>
     wp_X2_asOf x1_7 s_98 (fun r_99 =>
     (Rg r_99) ∧ wp_X2_say r_99 s_98 (fun s_103 =>
     K_9 (x1_7 + 1) s_103))))) 0 s_2) ∧
  ((x1_1 < (2 * (s_2 0 2))) →
   (0 ≤ x1_1) ∧ (x1_1 < 8) ∧ (Rg (s_2 2 x1_1)) ∧ wp_X2_say (s_2 2 x1_1) s_2 (fun s_108 =>
   K_3 (x1_1 + 1) s_108))) 0 (up s 0 33 547)
