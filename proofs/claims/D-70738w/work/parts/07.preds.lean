set_option maxRecDepth 100000
def wp_X0_isIn_L15  (Post : Int32 → Prop)  (is0 : Int32) : Prop :=
  narrow .boolean (.int is0) = .int is0 ∧
  Post is0
def wp_X0_isIn_L14  (Post : Int32 → Prop)   : Prop :=
  wp_X0_isIn_L15 Post  (0 : Int32)
def wp_X0_isIn (i0 : Int32) (i1 : Int32) (i2 : Int32) (Post : Int32 → Prop) : Prop :=
  (i0 < i1 →
    wp_X0_isIn_L14 Post  
  ) ∧ (¬ i0 < i1 →
    (i2 < i0 →
      wp_X0_isIn_L14 Post  
    ) ∧ (¬ i2 < i0 →
      wp_X0_isIn_L15 Post  (1 : Int32)
    )
  )
def wp_X0_isOne (i0 : Int32) (Post : Int32 → Prop) : Prop :=
  wp_X0_isIn i0 (0 : Int32) (5 : Int32) (fun r1 =>
  narrow .boolean (.int r1) = .int r1 ∧
  Post r1
  )
def wp_X0_one_L31  (Post : Int32 → V → VL → V → V → V → V → Prop)  (x : V) (y : VL) (v0 : V) (v1 : V) (v2 : V) (v3 : V) : Prop :=
  Post (-2 : Int32) x y v0 v1 v2 v3
def wp_X0_one (i1 : Int32) (i2 : Int32) (i3 : Int32) (x : V) (y : VL) (v0 : V) (v1 : V) (v2 : V) (v3 : V) (Post : Int32 → V → VL → V → V → V → V → Prop) : Prop :=
  wp_X0_isOne i1 (fun r1 =>
  (r1 = 0 →
    Post (-1 : Int32) x y v0 v1 v2 v3
  ) ∧ (¬ r1 = 0 →
    wp_X0_isIn i2 (0 : Int32) (9999 : Int32) (fun r2 =>
    (r2 = 0 →
      wp_X0_one_L31 Post  x y v0 v1 v2 v3
    ) ∧ (¬ r2 = 0 →
      wp_X0_isIn i3 (0 : Int32) (9999 : Int32) (fun r3 =>
      (r3 = 0 →
        wp_X0_one_L31 Post  x y v0 v1 v2 v3
      ) ∧ (¬ r3 = 0 →
        vp_in i1 6 ∧
        vp_in i1 6 ∧
        ∀ n4 : Int32, n4 = (((10000 : Int32) * (v0 0 i1.toNatClampNeg)) + (v0 1 i1.toNatClampNeg)) →
        vp_in i1 6 ∧
        vp_in i1 6 ∧
        Post n4 x y (up2 (up2 v0 0 i1.toNatClampNeg i2) 1 i1.toNatClampNeg i3) v1 v2 v3
      )
      )
    )
    )
  )
  )
def wp_X0_areTwo_L24  (Post : Int32 → Prop)  (is0 : Int32) : Prop :=
  narrow .boolean (.int is0) = .int is0 ∧
  Post is0
def wp_X0_areTwo_L23  (Post : Int32 → Prop)   : Prop :=
  wp_X0_areTwo_L24 Post  (0 : Int32)
def wp_X0_areTwo (i0 : Int32) (i1 : Int32) (Post : Int32 → Prop) : Prop :=
  wp_X0_isOne i0 (fun r1 =>
  (r1 = 0 →
    wp_X0_areTwo_L23 Post  
  ) ∧ (¬ r1 = 0 →
    wp_X0_isOne i1 (fun r2 =>
    (r2 = 0 →
      wp_X0_areTwo_L23 Post  
    ) ∧ (¬ r2 = 0 →
      (i0 = i1 →
        wp_X0_areTwo_L23 Post  
      ) ∧ (¬ i0 = i1 →
        wp_X0_areTwo_L24 Post  (1 : Int32)
      )
    )
    )
  )
  )
def wp_X0_owe (i1 : Int32) (i2 : Int32) (i3 : Int32) (x : V) (y : VL) (v0 : V) (v1 : V) (v2 : V) (v3 : V) (Post : Int32 → V → VL → V → V → V → V → Prop) : Prop :=
  wp_X0_areTwo i1 i2 (fun r1 =>
  (r1 = 0 →
    Post (-1 : Int32) x y v0 v1 v2 v3
  ) ∧ (¬ r1 = 0 →
    wp_X0_isIn i3 (0 : Int32) (999 : Int32) (fun r2 =>
    (r2 = 0 →
      Post (-2 : Int32) x y v0 v1 v2 v3
    ) ∧ (¬ r2 = 0 →
      vp_in i1 6 ∧
      vp_in i2 6 ∧
      vp_in i1 6 ∧
      vp_in i2 6 ∧
      Post (v0 (2 + i1.toNatClampNeg) i2.toNatClampNeg) x y (up2 v0 (2 + i1.toNatClampNeg) i2.toNatClampNeg i3) v1 v2 v3
    )
    )
  )
  )
def wp_X0_isLot (i0 : Int32) (Post : Int32 → Prop) : Prop :=
  wp_X0_isIn i0 (0 : Int32) (7 : Int32) (fun r1 =>
  narrow .boolean (.int r1) = .int r1 ∧
  Post r1
  )
def wp_X0_lot_L19  (Post : Int32 → V → VL → V → V → V → V → Prop)  (x : V) (y : VL) (v0 : V) (v1 : V) (v2 : V) (v3 : V) : Prop :=
  Post (-1 : Int32) x y v0 v1 v2 v3
def wp_X0_lot_L74  (Post : Int32 → V → VL → V → V → V → V → Prop)  (i4 : Int32) (is0 : Int32) (is1 : Int32) (x : V) (y : VL) (v0 : V) (v1 : V) (v2 : V) (v3 : V) : Prop :=
  vp_in is1 8 ∧
  Post i4 x y (up2 v0 9 is1.toNatClampNeg is0) v1 v2 v3
def wp_X0_lot_L21  (Post : Int32 → V → VL → V → V → V → V → Prop)  (i1 : Int32) (i2 : Int32) (i3 : Int32) (x : V) (y : VL) (v0 : V) (v1 : V) (v2 : V) (v3 : V) : Prop :=
  wp_X0_isIn i2 (1 : Int32) (999 : Int32) (fun r1 =>
  (r1 = 0 →
    Post (-2 : Int32) x y v0 v1 v2 v3
  ) ∧ (¬ r1 = 0 →
    vp_in i1 8 ∧
    vp_in i1 8 ∧
    (0 ≤ i3 →
      wp_X0_lot_L74 Post  (v0 8 i1.toNatClampNeg) i3 i1 x y (up2 v0 8 i1.toNatClampNeg i2) v1 v2 v3
    ) ∧ (¬ 0 ≤ i3 →
      wp_X0_lot_L74 Post  (v0 8 i1.toNatClampNeg) (-6 : Int32) i1 x y (up2 v0 8 i1.toNatClampNeg i2) v1 v2 v3
    )
  )
  )
def wp_X0_lot (i1 : Int32) (i2 : Int32) (i3 : Int32) (x : V) (y : VL) (v0 : V) (v1 : V) (v2 : V) (v3 : V) (Post : Int32 → V → VL → V → V → V → V → Prop) : Prop :=
  wp_X0_isLot i1 (fun r1 =>
  (r1 = 0 →
    wp_X0_lot_L19 Post  x y v0 v1 v2 v3
  ) ∧ (¬ r1 = 0 →
    (i3 = (-1 : Int32) →
      wp_X0_lot_L21 Post  i1 i2 i3 x y v0 v1 v2 v3
    ) ∧ (¬ i3 = (-1 : Int32) →
      wp_X0_isOne i3 (fun r2 =>
      (r2 = 0 →
        wp_X0_lot_L19 Post  x y v0 v1 v2 v3
      ) ∧ (¬ r2 = 0 →
        wp_X0_lot_L21 Post  i1 i2 i3 x y v0 v1 v2 v3
      )
      )
    )
  )
  )
def wp_X0_set_L19  (Post : Int32 → V → VL → V → V → V → V → Prop)  (x : V) (y : VL) (v0 : V) (v1 : V) (v2 : V) (v3 : V) : Prop :=
  Post (-2 : Int32) x y v0 v1 v2 v3
def wp_X0_set (i1 : Int32) (i2 : Int32) (x : V) (y : VL) (v0 : V) (v1 : V) (v2 : V) (v3 : V) (Post : Int32 → V → VL → V → V → V → V → Prop) : Prop :=
  wp_X0_isIn i1 (0 : Int32) (1 : Int32) (fun r1 =>
  (r1 = 0 →
    wp_X0_set_L19 Post  x y v0 v1 v2 v3
  ) ∧ (¬ r1 = 0 →
    wp_X0_isIn i2 (0 : Int32) (99999 : Int32) (fun r2 =>
    (r2 = 0 →
      wp_X0_set_L19 Post  x y v0 v1 v2 v3
    ) ∧ (¬ r2 = 0 →
      vp_in i1 2 ∧
      vp_in i1 2 ∧
      Post (v0 10 i1.toNatClampNeg) x y (up2 v0 10 i1.toNatClampNeg i2) v1 v2 v3
    )
    )
  )
  )
def wp_X0_say (i1 : Int32) (x : V) (y : VL) (v0 : V) (v1 : V) (v2 : V) (v3 : V) (Post : Int32 → V → VL → V → V → V → V → Prop) : Prop :=
  wp_X0_isIn i1 (33 : Int32) (126 : Int32) (fun r1 =>
  (r1 = 0 →
    Post (-2 : Int32) x y v0 v1 v2 v3
  ) ∧ (¬ r1 = 0 →
    ((x 5 0) = (60 : Int32) →
      Post (-4 : Int32) x y v0 v1 v2 v3
    ) ∧ (¬ (x 5 0) = (60 : Int32) →
      vp_in (x 5 0) 60 ∧
      Post ((x 5 0) + (1 : Int32)) (up2 (up2 x 0 (x 5 0).toNatClampNeg (vp_nar .char ((i1.toUInt32 % 65536).toInt32))) 5 0 ((x 5 0) + (1 : Int32))) y v0 v1 v2 v3
    )
  )
  )
def wp_X0_wipe (x : V) (y : VL) (v0 : V) (v1 : V) (v2 : V) (v3 : V) (Post : Int32 → V → VL → V → V → V → V → Prop) : Prop :=
  Post (x 5 0) (up2 x 5 0 (0 : Int32)) y v0 v1 v2 v3
def wp_X0_step_L88  (Post : Int32 → Prop)  (is0 : Int32) : Prop :=
  Post is0
def wp_X0_step_L127  (Post : Int32 → Prop)  (is0 : Int32) : Prop :=
  Post is0
def wp_X0_step_L111  (Post : Int32 → Prop)   : Prop :=
  wp_X0_step_L127 Post  (2 : Int32)
def wp_X0_step_L145  (Post : Int32 → Prop)  (is0 : Int32) : Prop :=
  Post is0
def wp_X0_step_L163  (Post : Int32 → Prop)  (is0 : Int32) : Prop :=
  Post is0
def wp_X0_step_L174  (Post : Int32 → Prop)  (is0 : Int32) : Prop :=
  Post is0
def wp_X0_step_L185  (Post : Int32 → Prop)  (is0 : Int32) : Prop :=
  Post is0
def wp_X0_step_L175  (Post : Int32 → Prop)  (i2 : Int32) : Prop :=
  (i2 = 0 →
    wp_X0_step_L185 Post  (-6 : Int32)
  ) ∧ (¬ i2 = 0 →
    wp_X0_step_L185 Post  (0 : Int32)
  )
def wp_X0_step (i0 : Int32) (i1 : Int32) (Post : Int32 → Prop) : Prop :=
  wp_X0_isOne (i1 - (65 : Int32)) (fun r1 =>
  (i0 = 0 →
    (r1 = 0 →
      (i1 = (43 : Int32) →
        wp_X0_step_L88 Post  (2 : Int32)
      ) ∧ (¬ i1 = (43 : Int32) →
        (i1 = (33 : Int32) →
          wp_X0_step_L88 Post  (5 : Int32)
        ) ∧ (¬ i1 = (33 : Int32) →
          (i1 = (46 : Int32) →
            wp_X0_step_L88 Post  (0 : Int32)
          ) ∧ (¬ i1 = (46 : Int32) →
            wp_X0_step_L88 Post  (-6 : Int32)
          )
        )
      )
    ) ∧ (¬ r1 = 0 →
      wp_X0_step_L88 Post  (1 : Int32)
    )
  ) ∧ (¬ i0 = 0 → (
  (i0 = 1 →
    (i1 = (36 : Int32) →
      wp_X0_step_L127 Post  (3 : Int32)
    ) ∧ (¬ i1 = (36 : Int32) →
      (i1 = (47 : Int32) →
        wp_X0_step_L111 Post  
      ) ∧ (¬ i1 = (47 : Int32) →
        (i1 = (64 : Int32) →
          wp_X0_step_L111 Post  
        ) ∧ (¬ i1 = (64 : Int32) →
          (i1 = (62 : Int32) →
            wp_X0_step_L127 Post  (4 : Int32)
          ) ∧ (¬ i1 = (62 : Int32) →
            wp_X0_step_L127 Post  (-6 : Int32)
          )
        )
      )
    )
  ) ∧ (¬ i0 = 1 → (
  (i0 = 2 →
    wp_X0_isIn i1 (49 : Int32) (57 : Int32) (fun r3 =>
    (r3 = 0 →
      wp_X0_step_L145 Post  (-6 : Int32)
    ) ∧ (¬ r3 = 0 →
      wp_X0_step_L145 Post  (0 : Int32)
    )
    )
  ) ∧ (¬ i0 = 2 → (
  (i0 = 3 →
    wp_X0_isIn i1 (48 : Int32) (55 : Int32) (fun r4 =>
    (r4 = 0 →
      wp_X0_step_L163 Post  (-6 : Int32)
    ) ∧ (¬ r4 = 0 →
      wp_X0_step_L163 Post  (0 : Int32)
    )
    )
  ) ∧ (¬ i0 = 3 → (
  (i0 = 4 →
    wp_X0_step_L175 Post  r1
  ) ∧ (¬ i0 = 4 → (
  (i0 = 5 →
    (r1 = 0 →
      wp_X0_step_L174 Post  (-6 : Int32)
    ) ∧ (¬ r1 = 0 →
      wp_X0_step_L174 Post  (2 : Int32)
    )
  ) ∧ (¬ i0 = 5 → (
    wp_X0_step_L175 Post  r1
  ))))))))))))
  )
def wp_X0_faultOf_L48  (Post : Int32 → V → VL → V → V → V → V → Prop)  (is0 : Int32) (x : V) (y : VL) (v0 : V) (v1 : V) (v2 : V) (v3 : V) : Prop :=
  Post is0 x y v0 v1 v2 v3
def wp_X0_faultOf_S4  (Post : Int32 → V → VL → V → V → V → V → Prop)  (K4 : Int32 → Int32 → V → VL → V → V → V → V → Prop) (i1 : Int32) (i2 : Int32) (x : V) (y : VL) (v0 : V) (v1 : V) (v2 : V) (v3 : V) : Prop :=
  ((x 5 0) ≤ i2 →
    (i1 = 0 →
      wp_X0_faultOf_L48 Post  (-6 : Int32) x y v0 v1 v2 v3
    ) ∧ (¬ i1 = 0 →
      wp_X0_faultOf_L48 Post  (x 5 0) x y v0 v1 v2 v3
    )
  ) ∧ (¬ (x 5 0) ≤ i2 →
    vp_in i2 60 ∧
    wp_X0_step i1 (x 0 i2.toNatClampNeg) (fun r1 =>
    (0 ≤ r1 →
      K4 r1 (i2 + 1) x y v0 v1 v2 v3
    ) ∧ (¬ 0 ≤ r1 →
      Post i2 x y v0 v1 v2 v3
    )
    )
  )
def wp_X0_faultOf_L4  (Post : Int32 → V → VL → V → V → V → V → Prop)  : Nat → Int32 → Int32 → V → VL → V → V → V → V → Prop
  | 0 => fun _ _ _ _ _ _ _ _ => False
  | n + 1 => wp_X0_faultOf_S4  Post  (wp_X0_faultOf_L4  Post  n)
def wp_X0_faultOf (x : V) (y : VL) (v0 : V) (v1 : V) (v2 : V) (v3 : V) (Post : Int32 → V → VL → V → V → V → V → Prop) : Prop :=
  ∃ n, wp_X0_faultOf_L4 Post  n (0 : Int32) (0 : Int32) x y v0 v1 v2 v3
def wp_X0_fault (x : V) (y : VL) (v0 : V) (v1 : V) (v2 : V) (v3 : V) (Post : Int32 → V → VL → V → V → V → V → Prop) : Prop :=
  wp_X0_faultOf x y v0 v1 v2 v3 (fun r1 x_1 y_1 v0_1 v1_1 v2_1 v3_1 =>
  Post r1 x_1 y_1 v0_1 v1_1 v2_1 v3_1
  )
def wp_X1_copy_S32  (Post : V → Prop)  (K32 : Int32 → V → V → Prop) (i2 : Int32) (v : V) (vb : V) : Prop :=
  ((6 : Int32) ≤ i2 →
    Post (upRg (upRg (upRg (up2 (up2 (up2 (upRg (upRg (upRg v 8 (va_cpy (vb 8) (v 8) 0 0 8)) 9 (va_cpy (vb 9) (v 9) 0 0 8)) 10 (va_cpy (vb 10) (v 10) 0 0 2)) 14 0 (vb 14 0)) 14 1 (vb 14 1)) 14 2 (vb 14 2)) 11 (va_cpy (vb 11) (v 11) 0 0 8)) 12 (va_cpy (vb 12) (v 12) 0 0 8)) 13 (va_cpy (vb 13) (v 13) 0 0 8))
  ) ∧ (¬ (6 : Int32) ≤ i2 →
    vp_in i2 6 ∧
    vp_in i2 6 ∧
    K32 (i2 + 1) (upRg v (2 + i2.toNatClampNeg) (va_cpy (vb (2 + i2.toNatClampNeg)) (v (2 + i2.toNatClampNeg)) 0 0 6)) vb
  )
def wp_X1_copy_L32  (Post : V → Prop)  : Nat → Int32 → V → V → Prop
  | 0 => fun _ _ _ => False
  | n + 1 => wp_X1_copy_S32  Post  (wp_X1_copy_L32  Post  n)
def wp_X1_copy (v : V) (vb : V) (Post : V → Prop) : Prop :=
  ∃ n, wp_X1_copy_L32 Post  n (0 : Int32) (upRg (upRg v 0 (va_cpy (vb 0) (v 0) 0 0 6)) 1 (va_cpy (vb 1) (v 1) 0 0 6)) vb
def wp_X1_print (i1 : Int32) (v : V) (Post : Int32 → V → Prop) : Prop :=
  (((v 10 (0 : Int32).toNatClampNeg) + i1) ≤ (99999 : Int32) →
    Post (0 : Int32) (up2 v 10 (0 : Int32).toNatClampNeg ((v 10 (0 : Int32).toNatClampNeg) + i1))
  ) ∧ (¬ ((v 10 (0 : Int32).toNatClampNeg) + i1) ≤ (99999 : Int32) →
    Post (5 : Int32) v
  )
def wp_X1_forge_L27  (Post : Int32 → V → Prop)  (v : V) : Prop :=
  Post (5 : Int32) v
def wp_X1_forge (i1 : Int32) (i2 : Int32) (v : V) (Post : Int32 → V → Prop) : Prop :=
  vp_in i1 6 ∧
  ((9999 : Int32) < ((v 0 i1.toNatClampNeg) + i2) →
    wp_X1_forge_L27 Post  v
  ) ∧ (¬ (9999 : Int32) < ((v 0 i1.toNatClampNeg) + i2) →
    (((v 10 (1 : Int32).toNatClampNeg) + i2) ≤ (99999 : Int32) →
      vp_in i1 6 ∧
      vp_in i1 6 ∧
      Post (0 : Int32) (up2 (up2 v 0 i1.toNatClampNeg ((v 0 i1.toNatClampNeg) + i2)) 10 (1 : Int32).toNatClampNeg ((v 10 (1 : Int32).toNatClampNeg) + i2))
    ) ∧ (¬ ((v 10 (1 : Int32).toNatClampNeg) + i2) ≤ (99999 : Int32) →
      wp_X1_forge_L27 Post  v
    )
  )
def wp_X1_month (v : V) (Post : Int32 → V → Prop) : Prop :=
  ((v 14 1) = (99 : Int32) →
    Post (6 : Int32) v
  ) ∧ (¬ (v 14 1) = (99 : Int32) →
    Post (0 : Int32) (up2 v 14 1 ((v 14 1) + (1 : Int32)))
  )
def wp_X1_land_L30  (Post : Int32 → V → Prop) (K4 : Int32 → Int32 → V → Prop) (i2 : Int32) (is0 : Int32) (is1 : Int32) (v : V) : Prop :=
  K4 (is1 + is0) (i2 + 1) v
def wp_X1_land_S4  (Post : Int32 → V → Prop)  (K4 : Int32 → Int32 → V → Prop) (i1 : Int32) (i2 : Int32) (v : V) : Prop :=
  ((8 : Int32) ≤ i2 →
    Post i1 v
  ) ∧ (¬ (8 : Int32) ≤ i2 →
    vp_in i2 8 ∧
    (0 ≤ (v 9 i2.toNatClampNeg) →
      wp_X1_land_L30 Post K4 i2 (0 : Int32) i1 v
    ) ∧ (¬ 0 ≤ (v 9 i2.toNatClampNeg) →
      vp_in i2 8 ∧
      wp_X1_land_L30 Post K4 i2 (v 8 i2.toNatClampNeg) i1 v
    )
  )
def wp_X1_land_L4  (Post : Int32 → V → Prop)  : Nat → Int32 → Int32 → V → Prop
  | 0 => fun _ _ _ => False
  | n + 1 => wp_X1_land_S4  Post  (wp_X1_land_L4  Post  n)
def wp_X1_land (v : V) (Post : Int32 → V → Prop) : Prop :=
  ∃ n, wp_X1_land_L4 Post  n (0 : Int32) (0 : Int32) v
def wp_X1_notes_S18  (Post : Int32 → V → Prop)  (K18 : Int32 → Int32 → V → Prop) (i1 : Int32) (i4 : Int32) (v : V) : Prop :=
  ((6 : Int32) ≤ i4 →
    Post i1 v
  ) ∧ (¬ (6 : Int32) ≤ i4 →
    vp_in i4 6 ∧
    K18 (i1 + (v 0 i4.toNatClampNeg)) (i4 + 1) v
  )
def wp_X1_notes_L18  (Post : Int32 → V → Prop)  : Nat → Int32 → Int32 → V → Prop
  | 0 => fun _ _ _ => False
  | n + 1 => wp_X1_notes_S18  Post  (wp_X1_notes_L18  Post  n)
def wp_X1_notes (v : V) (Post : Int32 → V → Prop) : Prop :=
  ∃ n, wp_X1_notes_L18 Post  n (v 10 (0 : Int32).toNatClampNeg) (0 : Int32) v
def wp_X0_rateOf_L26  (Post : Int32 → Prop)  (is0 : Int32) : Prop :=
  Post is0
def wp_X0_rateOf (i0 : Int32) (l1 : Int64) (Post : Int32 → Prop) : Prop :=
  ((lg_cmp l1 (0 : Int64)) = 0 →
    wp_X0_rateOf_L26 Post  (100 : Int32)
  ) ∧ (¬ (lg_cmp l1 (0 : Int64)) = 0 →
    ¬ l1 = 0 ∧
    wp_X0_rateOf_L26 Post  ((if (((100 : Int64) * i0.toInt64) / l1) < (100 : Int64) then (((100 : Int64) * i0.toInt64) / l1) else (100 : Int64)).toInt32)
  )
def wp_X1_rate (v : V) (Post : Int32 → V → Prop) : Prop :=
  wp_X1_land v (fun r1 v_1 =>
  wp_X1_notes v_1 (fun r2 v_2 =>
  wp_X0_rateOf r1 r2.toInt64 (fun r3 =>
  Post r3 v_2
  )
  )
  )
def wp_X1_buy (i1 : Int32) (i2 : Int32) (v : V) (Post : Int32 → V → Prop) : Prop :=
  vp_in i2 8 ∧
  ((v 9 i2.toNatClampNeg) < 0 →
    vp_in i1 6 ∧
    vp_in i2 8 ∧
    ((v 8 i2.toNatClampNeg) ≤ (v 0 i1.toNatClampNeg) →
      vp_in i1 6 ∧
      vp_in i2 8 ∧
      vp_in i1 6 ∧
      vp_in i2 8 ∧
      vp_in i2 8 ∧
      Post (0 : Int32) (up2 (up2 (up2 v 0 i1.toNatClampNeg ((v 0 i1.toNatClampNeg) - (v 8 i2.toNatClampNeg))) 14 0 ((v 14 0) + (v 8 i2.toNatClampNeg))) 9 i2.toNatClampNeg i1)
    ) ∧ (¬ (v 8 i2.toNatClampNeg) ≤ (v 0 i1.toNatClampNeg) →
      Post (3 : Int32) v
    )
  ) ∧ (¬ (v 9 i2.toNatClampNeg) < 0 →
    Post (2 : Int32) v
  )
def wp_X1_change_L49  (Post : Int32 → V → Prop)  (v : V) : Prop :=
  Post (5 : Int32) v
def wp_X1_change (i1 : Int32) (i2 : Int32) (v : V) (Post : Int32 → V → Prop) : Prop :=
  vp_in i1 6 ∧
  (i2 ≤ (v 0 i1.toNatClampNeg) →
    wp_X1_rate v (fun r1 v_1 =>
    vp_in i1 6 ∧
    ((9999 : Int32) < ((v_1 1 i1.toNatClampNeg) + ((r1 * i2) / (100 : Int32))) →
      wp_X1_change_L49 Post  v_1
    ) ∧ (¬ (9999 : Int32) < ((v_1 1 i1.toNatClampNeg) + ((r1 * i2) / (100 : Int32))) →
      (((v_1 10 (0 : Int32).toNatClampNeg) + i2) ≤ (99999 : Int32) →
        vp_in i1 6 ∧
        vp_in i1 6 ∧
        vp_in i1 6 ∧
        vp_in i1 6 ∧
        Post (0 : Int32) (up2 (up2 (up2 v_1 1 i1.toNatClampNeg ((v_1 1 i1.toNatClampNeg) + ((r1 * i2) / (100 : Int32)))) 0 i1.toNatClampNeg ((v_1 0 i1.toNatClampNeg) - i2)) 10 (0 : Int32).toNatClampNeg ((v_1 10 (0 : Int32).toNatClampNeg) + i2))
      ) ∧ (¬ ((v_1 10 (0 : Int32).toNatClampNeg) + i2) ≤ (99999 : Int32) →
        wp_X1_change_L49 Post  v_1
      )
    )
    )
  ) ∧ (¬ i2 ≤ (v 0 i1.toNatClampNeg) →
    Post (3 : Int32) v
  )
def wp_X1_pay (i1 : Int32) (i2 : Int32) (v : V) (Post : Int32 → V → Prop) : Prop :=
  (i1 = i2 →
    Post (1 : Int32) v
  ) ∧ (¬ i1 = i2 →
    vp_in i1 6 ∧
    vp_in i2 6 ∧
    vp_in i1 6 ∧
    ∀ n2 : Int32, n2 = (if (v 0 i1.toNatClampNeg) < (v (2 + i1.toNatClampNeg) i2.toNatClampNeg) then (v 0 i1.toNatClampNeg) else (v (2 + i1.toNatClampNeg) i2.toNatClampNeg)) →
    (n2 = 0 →
      Post (4 : Int32) v
    ) ∧ (¬ n2 = 0 →
      vp_in i2 6 ∧
      (((v 0 i2.toNatClampNeg) + n2) ≤ (9999 : Int32) →
        vp_in i1 6 ∧
        vp_in i1 6 ∧
        vp_in i2 6 ∧
        vp_in i2 6 ∧
        vp_in i1 6 ∧
        vp_in i2 6 ∧
        vp_in i2 6 ∧
        Post (0 : Int32) (up2 (up2 (up2 v 0 i1.toNatClampNeg ((v 0 i1.toNatClampNeg) - n2)) 0 i2.toNatClampNeg (((up2 v 0 i1.toNatClampNeg ((v 0 i1.toNatClampNeg) - n2)) 0 i2.toNatClampNeg) + n2)) (2 + i1.toNatClampNeg) i2.toNatClampNeg (((up2 (up2 v 0 i1.toNatClampNeg ((v 0 i1.toNatClampNeg) - n2)) 0 i2.toNatClampNeg (((up2 v 0 i1.toNatClampNeg ((v 0 i1.toNatClampNeg) - n2)) 0 i2.toNatClampNeg) + n2)) (2 + i1.toNatClampNeg) i2.toNatClampNeg) - n2))
      ) ∧ (¬ ((v 0 i2.toNatClampNeg) + n2) ≤ (9999 : Int32) →
        Post (5 : Int32) v
      )
    )
  )
def wp_X1_spend (i1 : Int32) (i2 : Int32) (v : V) (Post : Int32 → V → Prop) : Prop :=
  (i2 ≤ (v 10 (0 : Int32).toNatClampNeg) →
    vp_in i1 6 ∧
    (((v 0 i1.toNatClampNeg) + i2) ≤ (9999 : Int32) →
      vp_in i1 6 ∧
      vp_in i1 6 ∧
      Post (0 : Int32) (up2 (up2 v 10 (0 : Int32).toNatClampNeg ((v 10 (0 : Int32).toNatClampNeg) - i2)) 0 i1.toNatClampNeg ((v 0 i1.toNatClampNeg) + i2))
    ) ∧ (¬ ((v 0 i1.toNatClampNeg) + i2) ≤ (9999 : Int32) →
      Post (5 : Int32) v
    )
  ) ∧ (¬ i2 ≤ (v 10 (0 : Int32).toNatClampNeg) →
    Post (3 : Int32) v
  )
def wp_X0_verb (i1 : Int32) (i2 : Int32) (i3 : Int32) (x : V) (y : VL) (v0 : V) (v1 : V) (v2 : V) (v3 : V) (Post : Int32 → V → VL → V → V → V → V → Prop) : Prop :=
  (i2 = 36 →
    wp_X1_buy i1 (i3 - (48 : Int32)) v1 (fun r2 v1_2 =>
    Post r2 x y v0 v1_2 v2 v3
    )
  ) ∧ (¬ i2 = 36 → (
  (i2 = 47 →
    wp_X1_change i1 ((10 : Int32) * (i3 - (48 : Int32))) v1 (fun r3 v1_3 =>
    Post r3 x y v0 v1_3 v2 v3
    )
  ) ∧ (¬ i2 = 47 → (
  (i2 = 62 →
    wp_X1_pay i1 (i3 - (65 : Int32)) v1 (fun r4 v1_4 =>
    Post r4 x y v0 v1_4 v2 v3
    )
  ) ∧ (¬ i2 = 62 → (
    wp_X1_spend i1 ((100 : Int32) * (i3 - (48 : Int32))) v1 (fun r5 v1_5 =>
    Post r5 x y v0 v1_5 v2 v3
    )
  ))))))
def wp_X0_act (i1 : Int32) (x : V) (y : VL) (v0 : V) (v1 : V) (v2 : V) (v3 : V) (Post : Int32 → V → VL → V → V → V → V → Prop) : Prop :=
  vp_in i1 60 ∧
  ((x 0 i1.toNatClampNeg) = 33 →
    vp_in (i1 + (1 : Int32)) 60 ∧
    vp_in (i1 + (2 : Int32)) 60 ∧
    wp_X1_forge ((x 0 (i1 + (1 : Int32)).toNatClampNeg) - (65 : Int32)) ((100 : Int32) * ((x 0 (i1 + (2 : Int32)).toNatClampNeg) - (48 : Int32))) v1 (fun r2 v1_2 =>
    Post (i1 + (3 : Int32)) (up2 x 5 1 r2) y v0 v1_2 v2 v3
    )
  ) ∧ (¬ (x 0 i1.toNatClampNeg) = 33 → (
  ((x 0 i1.toNatClampNeg) = 43 →
    vp_in (i1 + (1 : Int32)) 60 ∧
    wp_X1_print ((100 : Int32) * ((x 0 (i1 + (1 : Int32)).toNatClampNeg) - (48 : Int32))) v1 (fun r3 v1_3 =>
    Post (i1 + (2 : Int32)) (up2 x 5 1 r3) y v0 v1_3 v2 v3
    )
  ) ∧ (¬ (x 0 i1.toNatClampNeg) = 43 → (
  ((x 0 i1.toNatClampNeg) = 46 →
    wp_X1_month v1 (fun r4 v1_4 =>
    wp_X1_rate v1_4 (fun r5 v1_5 =>
    vp_in (x 5 3) 60 ∧
    Post (i1 + (1 : Int32)) (up2 (up2 (up2 x 5 1 r4) 1 (x 5 3).toNatClampNeg r5) 5 3 ((x 5 3) + (1 : Int32))) y v0 v1_5 v2 v3
    )
    )
  ) ∧ (¬ (x 0 i1.toNatClampNeg) = 46 → (
    vp_in i1 60 ∧
    vp_in (i1 + (1 : Int32)) 60 ∧
    vp_in (i1 + (2 : Int32)) 60 ∧
    wp_X0_verb ((x 0 i1.toNatClampNeg) - (65 : Int32)) (x 0 (i1 + (1 : Int32)).toNatClampNeg) (x 0 (i1 + (2 : Int32)).toNatClampNeg) x y v0 v1 v2 v3 (fun r6 x_6 y_6 v0_6 v1_6 v2_6 v3_6 =>
    Post (i1 + (3 : Int32)) (up2 x_6 5 1 r6) y_6 v0_6 v1_6 v2_6 v3_6
    )
  ))))))
def wp_X0_goMonths_S23  (Post : Int32 → V → VL → V → V → V → V → Prop)  (K23 : Int32 → V → VL → V → V → V → V → Prop) (i1 : Int32) (x : V) (y : VL) (v0 : V) (v1 : V) (v2 : V) (v3 : V) : Prop :=
  ((x 5 0) ≤ i1 →
    Post (-6 : Int32) x y v0 v1 v2 v3
  ) ∧ (¬ (x 5 0) ≤ i1 →
    wp_X0_act i1 x y v0 v1 v2 v3 (fun r1 x_1 y_1 v0_1 v1_1 v2_1 v3_1 =>
    ((x_1 5 1) ≤ 0 →
      K23 r1 (up2 x_1 5 2 ((x_1 5 2) + (1 : Int32))) y_1 v0_1 v1_1 v2_1 v3_1
    ) ∧ (¬ (x_1 5 1) ≤ 0 →
      Post (x_1 5 2) x_1 y_1 v0_1 v1_1 v2_1 v3_1
    )
    )
  )
def wp_X0_goMonths_L23  (Post : Int32 → V → VL → V → V → V → V → Prop)  : Nat → Int32 → V → VL → V → V → V → V → Prop
  | 0 => fun _ _ _ _ _ _ _ => False
  | n + 1 => wp_X0_goMonths_S23  Post  (wp_X0_goMonths_L23  Post  n)
def wp_X0_goMonths (x : V) (y : VL) (v0 : V) (v1 : V) (v2 : V) (v3 : V) (Post : Int32 → V → VL → V → V → V → V → Prop) : Prop :=
  wp_X1_copy v1 v0 (fun v1_1 =>
  ∃ n, wp_X0_goMonths_L23 Post  n (0 : Int32) (up2 (up2 x 5 2 (0 : Int32)) 5 3 (0 : Int32)) y v0 v1_1 v2 v3
  )
def wp_X0_judge_L48  (Post : Int32 → V → VL → V → V → V → V → Prop)  (is0 : Int32) (x : V) (y : VL) (v0 : V) (v1 : V) (v2 : V) (v3 : V) : Prop :=
  Post is0 x y v0 v1 v2 v3
def wp_X0_judge_L40  (Post : Int32 → V → VL → V → V → V → V → Prop)  (i2 : Int32) (x : V) (y : VL) (v0 : V) (v1 : V) (v2 : V) (v3 : V) : Prop :=
  wp_X0_judge_L48 Post  i2 x y v0 v1 v2 v3
def wp_X0_judge_L62  (Post : Int32 → V → VL → V → V → V → V → Prop)  (is0 : Int32) (x : V) (y : VL) (v0 : V) (v1 : V) (v2 : V) (v3 : V) : Prop :=
  Post is0 x y v0 v1 v2 v3
def wp_X0_judge (i1 : Int32) (x : V) (y : VL) (v0 : V) (v1 : V) (v2 : V) (v3 : V) (Post : Int32 → V → VL → V → V → V → V → Prop) : Prop :=
  wp_X0_isIn i1 (0 : Int32) (2 : Int32) (fun r1 =>
  (r1 = 0 →
    Post (-2 : Int32) x y v0 v1 v2 v3
  ) ∧ (¬ r1 = 0 →
    wp_X0_faultOf x y v0 v1 v2 v3 (fun r2 x_2 y_2 v0_2 v1_2 v2_2 v3_2 =>
    (r2 < 0 →
      wp_X0_goMonths x_2 y_2 v0_2 v1_2 v2_2 v3_2 (fun r3 x_3 y_3 v0_3 v1_3 v2_3 v3_3 =>
      ((2 : Int32) ≤ i1 →
        (r3 < 0 →
          wp_X0_judge_L62 Post  (x_3 5 3) x_3 y_3 v0_3 v1_3 v2_3 v3_3
        ) ∧ (¬ r3 < 0 →
          wp_X0_judge_L62 Post  (-3 : Int32) x_3 y_3 v0_3 v1_3 v2_3 v3_3
        )
      ) ∧ (¬ (2 : Int32) ≤ i1 →
        (r3 < 0 →
          wp_X0_judge_L40 Post  r3 x_3 y_3 v0_3 v1_3 v2_3 v3_3
        ) ∧ (¬ r3 < 0 →
          (i1 = 0 →
            wp_X0_judge_L40 Post  r3 x_3 y_3 v0_3 v1_3 v2_3 v3_3
          ) ∧ (¬ i1 = 0 →
            wp_X0_judge_L48 Post  (x_3 5 1) x_3 y_3 v0_3 v1_3 v2_3 v3_3
          )
        )
      )
      )
    ) ∧ (¬ r2 < 0 →
      Post (-5 : Int32) x_2 y_2 v0_2 v1_2 v2_2 v3_2
    )
    )
  )
  )
def wp_X0_barOfMonths_L25  (Post : Int32 → V → VL → V → V → V → V → Prop)  (is0 : Int32) (x : V) (y : VL) (v0 : V) (v1 : V) (v2 : V) (v3 : V) : Prop :=
  Post is0 x y v0 v1 v2 v3
def wp_X0_barOfMonths (x : V) (y : VL) (v0 : V) (v1 : V) (v2 : V) (v3 : V) (Post : Int32 → V → VL → V → V → V → V → Prop) : Prop :=
  wp_X0_faultOf x y v0 v1 v2 v3 (fun r1 x_1 y_1 v0_1 v1_1 v2_1 v3_1 =>
  (r1 < 0 →
    wp_X0_goMonths x_1 y_1 v0_1 v1_1 v2_1 v3_1 (fun r2 x_2 y_2 v0_2 v1_2 v2_2 v3_2 =>
    (r2 < 0 →
      wp_X0_barOfMonths_L25 Post  (0 : Int32) x_2 y_2 v0_2 v1_2 v2_2 v3_2
    ) ∧ (¬ r2 < 0 →
      wp_X0_barOfMonths_L25 Post  (-3 : Int32) x_2 y_2 v0_2 v1_2 v2_2 v3_2
    )
    )
  ) ∧ (¬ r1 < 0 →
    wp_X0_barOfMonths_L25 Post  (-5 : Int32) x_1 y_1 v0_1 v1_1 v2_1 v3_1
  )
  )
def wp_X0_asNumber_L9  (Post : Int32 → Prop)  (is0 : Int32) : Prop :=
  Post is0
def wp_X0_asNumber (i0 : Int32) (Post : Int32 → Prop) : Prop :=
  (i0 = 0 →
    wp_X0_asNumber_L9 Post  (0 : Int32)
  ) ∧ (¬ i0 = 0 →
    wp_X0_asNumber_L9 Post  (1 : Int32)
  )
def wp_X1_lotsOf_L26  (Post : Int32 → V → Prop) (K4 : Int32 → Int32 → Int32 → V → Prop) (i1 : Int32) (i3 : Int32) (is0 : Int32) (is1 : Int32) (v : V) : Prop :=
  wp_X0_asNumber is0 (fun r1 =>
  K4 i1 (is1 ||| (r1 <<< (i3 &&& 31))) (i3 + 1) v
  )
def wp_X1_lotsOf_S4  (Post : Int32 → V → Prop)  (K4 : Int32 → Int32 → Int32 → V → Prop) (i1 : Int32) (i2 : Int32) (i3 : Int32) (v : V) : Prop :=
  ((8 : Int32) ≤ i3 →
    Post i2 v
  ) ∧ (¬ (8 : Int32) ≤ i3 →
    vp_in i3 8 ∧
    ((v 9 i3.toNatClampNeg) = i1 →
      wp_X1_lotsOf_L26 Post K4 i1 i3 (1 : Int32) i2 v
    ) ∧ (¬ (v 9 i3.toNatClampNeg) = i1 →
      wp_X1_lotsOf_L26 Post K4 i1 i3 (0 : Int32) i2 v
    )
  )
def wp_X1_lotsOf_L4  (Post : Int32 → V → Prop)  : Nat → Int32 → Int32 → Int32 → V → Prop
  | 0 => fun _ _ _ _ => False
  | n + 1 => wp_X1_lotsOf_S4  Post  (wp_X1_lotsOf_L4  Post  n)
def wp_X1_lotsOf (i1 : Int32) (v : V) (Post : Int32 → V → Prop) : Prop :=
  ∃ n, wp_X1_lotsOf_L4 Post  n i1 (0 : Int32) (0 : Int32) v
def wp_X1_owesInAll_S16  (Post : Int32 → V → Prop)  (K16 : Int32 → Nat → Int32 → V → Prop) (i2 : Int32) (k3 : Nat) (i5 : Int32) (v : V) : Prop :=
  ((6 : Int32) ≤ i5 →
    Post i2 v
  ) ∧ (¬ (6 : Int32) ≤ i5 →
    k3 < 6 ∧
    vp_in i5 6 ∧
    K16 (i2 + (v (2 + k3) i5.toNatClampNeg)) k3 (i5 + 1) v
  )
def wp_X1_owesInAll_L16  (Post : Int32 → V → Prop)  : Nat → Int32 → Nat → Int32 → V → Prop
  | 0 => fun _ _ _ _ => False
  | n + 1 => wp_X1_owesInAll_S16  Post  (wp_X1_owesInAll_L16  Post  n)
def wp_X1_owesInAll (i1 : Int32) (v : V) (Post : Int32 → V → Prop) : Prop :=
  vp_in i1 6 ∧
  ∃ n, wp_X1_owesInAll_L16 Post  n (0 : Int32) i1.toNatClampNeg (0 : Int32) v
def wp_X0_behind_L89  (Post : Int32 → V → VL → V → V → V → V → Prop)  (is0 : Int32) (x : V) (y : VL) (v0 : V) (v1 : V) (v2 : V) (v3 : V) : Prop :=
  Post is0 x y v0 v1 v2 v3
def wp_X0_behind (i1 : Int32) (i2 : Int32) (x : V) (y : VL) (v0 : V) (v1 : V) (v2 : V) (v3 : V) (Post : Int32 → V → VL → V → V → V → V → Prop) : Prop :=
  wp_X0_isOne i1 (fun r1 =>
  (r1 = 0 →
    Post (-1 : Int32) x y v0 v1 v2 v3
  ) ∧ (¬ r1 = 0 →
    wp_X0_isIn i2 (0 : Int32) (3 : Int32) (fun r2 =>
    (r2 = 0 →
      Post (-2 : Int32) x y v0 v1 v2 v3
    ) ∧ (¬ r2 = 0 →
      wp_X0_barOfMonths x y v0 v1 v2 v3 (fun r3 x_3 y_3 v0_3 v1_3 v2_3 v3_3 =>
      (0 ≤ r3 →
        (i2 = 0 →
          vp_in i1 6 ∧
          wp_X0_behind_L89 Post  (v1_3 0 i1.toNatClampNeg) x_3 y_3 v0_3 v1_3 v2_3 v3_3
        ) ∧ (¬ i2 = 0 →
          (i2 = (1 : Int32) →
            vp_in i1 6 ∧
            wp_X0_behind_L89 Post  (v1_3 1 i1.toNatClampNeg) x_3 y_3 v0_3 v1_3 v2_3 v3_3
          ) ∧ (¬ i2 = (1 : Int32) →
            (i2 = (2 : Int32) →
              wp_X1_lotsOf i1 v1_3 (fun r5 v1_5 =>
              wp_X0_behind_L89 Post  r5 x_3 y_3 v0_3 v1_5 v2_3 v3_3
              )
            ) ∧ (¬ i2 = (2 : Int32) →
              wp_X1_owesInAll i1 v1_3 (fun r4 v1_4 =>
              wp_X0_behind_L89 Post  r4 x_3 y_3 v0_3 v1_4 v2_3 v3_3
              )
            )
          )
        )
      ) ∧ (¬ 0 ≤ r3 →
        Post r3 x_3 y_3 v0_3 v1_3 v2_3 v3_3
      )
      )
    )
    )
  )
  )
def wp_X0_total (i1 : Int32) (x : V) (y : VL) (v0 : V) (v1 : V) (v2 : V) (v3 : V) (Post : Int32 → V → VL → V → V → V → V → Prop) : Prop :=
  wp_X0_isIn i1 (0 : Int32) (5 : Int32) (fun r1 =>
  (r1 = 0 →
    Post (-2 : Int32) x y v0 v1 v2 v3
  ) ∧ (¬ r1 = 0 →
    wp_X0_barOfMonths x y v0 v1 v2 v3 (fun r2 x_2 y_2 v0_2 v1_2 v2_2 v3_2 =>
    (0 ≤ r2 →
      (i1 = 0 →
        wp_X1_notes v1_2 (fun r4 v1_4 =>
        Post r4 x_2 y_2 v0_2 v1_4 v2_2 v3_2
        )
      ) ∧ (¬ i1 = 0 → (
      (i1 = 1 →
        wp_X1_land v1_2 (fun r5 v1_5 =>
        Post r5 x_2 y_2 v0_2 v1_5 v2_2 v3_2
        )
      ) ∧ (¬ i1 = 1 → (
      (i1 = 2 →
        wp_X1_rate v1_2 (fun r6 v1_6 =>
        Post r6 x_2 y_2 v0_2 v1_6 v2_2 v3_2
        )
      ) ∧ (¬ i1 = 2 → (
      (i1 = 3 →
        Post (v1_2 14 0) x_2 y_2 v0_2 v1_2 v2_2 v3_2
      ) ∧ (¬ i1 = 3 → (
      (i1 = 4 →
        Post (v1_2 10 (1 : Int32).toNatClampNeg) x_2 y_2 v0_2 v1_2 v2_2 v3_2
      ) ∧ (¬ i1 = 4 → (
        Post (v1_2 14 1) x_2 y_2 v0_2 v1_2 v2_2 v3_2
      ))))))))))
    ) ∧ (¬ 0 ≤ r2 →
      Post r2 x_2 y_2 v0_2 v1_2 v2_2 v3_2
    )
    )
  )
  )
def wp_X0_fell_S26  (Post : Int32 → V → VL → V → V → V → V → Prop)  (K26 : Int32 → Int32 → V → VL → V → V → V → V → Prop) (i1 : Int32) (i3 : Int32) (x : V) (y : VL) (v0 : V) (v1 : V) (v2 : V) (v3 : V) : Prop :=
  ((x 5 3) ≤ i3 →
    Post (-6 : Int32) x y v0 v1 v2 v3
  ) ∧ (¬ (x 5 3) ≤ i3 →
    vp_in i3 60 ∧
    (i1 ≤ (x 1 i3.toNatClampNeg) →
      K26 i1 (i3 + 1) x y v0 v1 v2 v3
    ) ∧ (¬ i1 ≤ (x 1 i3.toNatClampNeg) →
      Post i3 x y v0 v1 v2 v3
    )
  )
def wp_X0_fell_L26  (Post : Int32 → V → VL → V → V → V → V → Prop)  : Nat → Int32 → Int32 → V → VL → V → V → V → V → Prop
  | 0 => fun _ _ _ _ _ _ _ _ => False
  | n + 1 => wp_X0_fell_S26  Post  (wp_X0_fell_L26  Post  n)
def wp_X0_fell (i1 : Int32) (x : V) (y : VL) (v0 : V) (v1 : V) (v2 : V) (v3 : V) (Post : Int32 → V → VL → V → V → V → V → Prop) : Prop :=
  wp_X0_isIn i1 (0 : Int32) (100 : Int32) (fun r1 =>
  (r1 = 0 →
    Post (-2 : Int32) x y v0 v1 v2 v3
  ) ∧ (¬ r1 = 0 →
    wp_X0_barOfMonths x y v0 v1 v2 v3 (fun r2 x_2 y_2 v0_2 v1_2 v2_2 v3_2 =>
    (0 ≤ r2 →
      ∃ n, wp_X0_fell_L26 Post  n i1 (0 : Int32) x_2 y_2 v0_2 v1_2 v2_2 v3_2
    ) ∧ (¬ 0 ≤ r2 →
      Post r2 x_2 y_2 v0_2 v1_2 v2_2 v3_2
    )
    )
  )
  )
def wp_X0_done (x : V) (y : VL) (v0 : V) (v1 : V) (v2 : V) (v3 : V) (Post : Int32 → V → VL → V → V → V → V → Prop) : Prop :=
  wp_X0_barOfMonths x y v0 v1 v2 v3 (fun r1 x_1 y_1 v0_1 v1_1 v2_1 v3_1 =>
  (0 ≤ r1 →
    wp_X1_copy v0_1 v1_1 (fun v0_2 =>
    Post (x_1 5 2) (up2 x_1 5 0 (0 : Int32)) y_1 v0_2 v1_1 v2_1 v3_1
    )
  ) ∧ (¬ 0 ≤ r1 →
    Post r1 x_1 y_1 v0_1 v1_1 v2_1 v3_1
  )
  )
def wp_J0_fill_S5 (nf : Nat) (Post : (Nat → Int32) → Prop)  (K5 : Int32 → Int32 → Int32 → (Nat → Int32) → Prop) (i1 : Int32) (i2 : Int32) (i3 : Int32) (f : Nat → Int32) : Prop :=
  (i3 ≤ i2 →
    Post f
  ) ∧ (¬ i3 ≤ i2 →
    vp_in i2 nf ∧
    K5 i1 (i2 + 1) i3 (upd f i2.toNatClampNeg i1)
  )
def wp_J0_fill_L5 (nf : Nat) (Post : (Nat → Int32) → Prop)  : Nat → Int32 → Int32 → Int32 → (Nat → Int32) → Prop
  | 0 => fun _ _ _ _ => False
  | n + 1 => wp_J0_fill_S5 nf Post  (wp_J0_fill_L5 nf Post  n)
def wp_J0_fill (nf : Nat) (i1 : Int32) (f : Nat → Int32) (Post : (Nat → Int32) → Prop) : Prop :=
  ∃ n, wp_J0_fill_L5 nf Post  n i1 (0 : Int32) (Int32.ofNat nf) f
def wp_X0_layNet_S18  (Post : V → VL → V → V → V → V → Prop) (K10 : Int32 → V → VL → V → V → V → V → Prop) (K18 : Int32 → Int32 → V → VL → V → V → V → V → Prop) (i1 : Int32) (i2 : Int32) (x : V) (y : VL) (v0 : V) (v1 : V) (v2 : V) (v3 : V) : Prop :=
  ((6 : Int32) ≤ i2 →
    K10 (i1 + 1) x y v0 v1 v2 v3
  ) ∧ (¬ (6 : Int32) ≤ i2 →
    vp_in i1 6 ∧
    vp_in i1 6 ∧
    vp_in i2 6 ∧
    vp_in i1 6 ∧
    vp_in i2 6 ∧
    vp_in i1 6 ∧
    vp_in i2 6 ∧
    vp_in i2 6 ∧
    K18 i1 (i2 + 1) (up2 (up2 x 2 i1.toNatClampNeg ((x 2 i1.toNatClampNeg) - (v0 (2 + i1.toNatClampNeg) i2.toNatClampNeg))) 2 i2.toNatClampNeg (((up2 x 2 i1.toNatClampNeg ((x 2 i1.toNatClampNeg) - (v0 (2 + i1.toNatClampNeg) i2.toNatClampNeg))) 2 i2.toNatClampNeg) + (v0 (2 + i1.toNatClampNeg) i2.toNatClampNeg))) y v0 v1 v2 v3
  )
def wp_X0_layNet_L18  (Post : V → VL → V → V → V → V → Prop) (K10 : Int32 → V → VL → V → V → V → V → Prop) : Nat → Int32 → Int32 → V → VL → V → V → V → V → Prop
  | 0 => fun _ _ _ _ _ _ _ _ => False
  | n + 1 => wp_X0_layNet_S18  Post K10 (wp_X0_layNet_L18  Post K10 n)
def wp_X0_layNet_S10  (Post : V → VL → V → V → V → V → Prop)  (K10 : Int32 → V → VL → V → V → V → V → Prop) (i1 : Int32) (x : V) (y : VL) (v0 : V) (v1 : V) (v2 : V) (v3 : V) : Prop :=
  ((6 : Int32) ≤ i1 →
    Post x y v0 v1 v2 v3
  ) ∧ (¬ (6 : Int32) ≤ i1 →
    ∃ n, wp_X0_layNet_L18 Post K10 n i1 (0 : Int32) x y v0 v1 v2 v3
  )
def wp_X0_layNet_L10  (Post : V → VL → V → V → V → V → Prop)  : Nat → Int32 → V → VL → V → V → V → V → Prop
  | 0 => fun _ _ _ _ _ _ _ => False
  | n + 1 => wp_X0_layNet_S10  Post  (wp_X0_layNet_L10  Post  n)
def wp_X0_layNet (x : V) (y : VL) (v0 : V) (v1 : V) (v2 : V) (v3 : V) (Post : V → VL → V → V → V → V → Prop) : Prop :=
  wp_J0_fill 6 (0 : Int32) (x 2) (fun f1 =>
  ∃ n, wp_X0_layNet_L10 Post  n (0 : Int32) (upRg x 2 f1) y v0 v1 v2 v3
  )
def wp_X0_has_L14  (Post : Int32 → Prop)  (is0 : Int32) : Prop :=
  narrow .boolean (.int is0) = .int is0 ∧
  Post is0
def wp_X0_has (i0 : Int32) (i1 : Int32) (Post : Int32 → Prop) : Prop :=
  (((i0 >>> (i1 &&& 31)) &&& (1 : Int32)) = (1 : Int32) →
    wp_X0_has_L14 Post  (1 : Int32)
  ) ∧ (¬ ((i0 >>> (i1 &&& 31)) &&& (1 : Int32)) = (1 : Int32) →
    wp_X0_has_L14 Post  (0 : Int32)
  )
def wp_X0_netOf_L29  (Post : Int32 → V → VL → V → V → V → V → Prop) (K4 : Int32 → Int32 → Int32 → V → VL → V → V → V → V → Prop) (i1 : Int32) (i3 : Int32) (is0 : Int32) (is1 : Int32) (x : V) (y : VL) (v0 : V) (v1 : V) (v2 : V) (v3 : V) : Prop :=
  K4 i1 (is1 + is0) (i3 + 1) x y v0 v1 v2 v3
def wp_X0_netOf_S4  (Post : Int32 → V → VL → V → V → V → V → Prop)  (K4 : Int32 → Int32 → Int32 → V → VL → V → V → V → V → Prop) (i1 : Int32) (i2 : Int32) (i3 : Int32) (x : V) (y : VL) (v0 : V) (v1 : V) (v2 : V) (v3 : V) : Prop :=
  ((6 : Int32) ≤ i3 →
    Post i2 x y v0 v1 v2 v3
  ) ∧ (¬ (6 : Int32) ≤ i3 →
    wp_X0_has i1 i3 (fun r1 =>
    (r1 = 0 →
      wp_X0_netOf_L29 Post K4 i1 i3 (0 : Int32) i2 x y v0 v1 v2 v3
    ) ∧ (¬ r1 = 0 →
      vp_in i3 6 ∧
      wp_X0_netOf_L29 Post K4 i1 i3 (x 2 i3.toNatClampNeg) i2 x y v0 v1 v2 v3
    )
    )
  )
def wp_X0_netOf_L4  (Post : Int32 → V → VL → V → V → V → V → Prop)  : Nat → Int32 → Int32 → Int32 → V → VL → V → V → V → V → Prop
  | 0 => fun _ _ _ _ _ _ _ _ _ => False
  | n + 1 => wp_X0_netOf_S4  Post  (wp_X0_netOf_L4  Post  n)
def wp_X0_netOf (i1 : Int32) (x : V) (y : VL) (v0 : V) (v1 : V) (v2 : V) (v3 : V) (Post : Int32 → V → VL → V → V → V → V → Prop) : Prop :=
  ∃ n, wp_X0_netOf_L4 Post  n i1 (0 : Int32) (0 : Int32) x y v0 v1 v2 v3
def wp_J2_bitCount (i0 : Int32) (Post : Int32 → Prop) : Prop :=
  ∀ n1 : Int32, n1 = (i0 - ((i0.toUInt32 >>> ((1 : Int32).toUInt32 &&& Int32.toUInt32 31)).toInt32 &&& (1431655765 : Int32))) →
  ∀ n2 : Int32, n2 = ((n1 &&& (858993459 : Int32)) + ((n1.toUInt32 >>> ((2 : Int32).toUInt32 &&& Int32.toUInt32 31)).toInt32 &&& (858993459 : Int32))) →
  ∀ n3 : Int32, n3 = ((n2 + (n2.toUInt32 >>> ((4 : Int32).toUInt32 &&& Int32.toUInt32 31)).toInt32) &&& (252645135 : Int32)) →
  ∀ n4 : Int32, n4 = (n3 + (n3.toUInt32 >>> ((8 : Int32).toUInt32 &&& Int32.toUInt32 31)).toInt32) →
  ∀ n5 : Int32, n5 = (n4 + (n4.toUInt32 >>> ((16 : Int32).toUInt32 &&& Int32.toUInt32 31)).toInt32) →
  Post (n5 &&& (63 : Int32))
def wp_X0_struck_L60  (Post : Int32 → V → VL → V → V → V → V → Prop) (K23 : Int32 → Int32 → Int32 → Int32 → V → VL → V → V → V → V → Prop) (i1 : Int32) (i2 : Int32) (i4 : Int32) (is0 : Int32) (is1 : Int32) (x : V) (y : VL) (v0 : V) (v1 : V) (v2 : V) (v3 : V) : Prop :=
  wp_X0_asNumber is0 (fun r1 =>
  K23 i1 i2 (is1 ||| (r1 <<< (i4 &&& 31))) (i4 + 1) x y v0 v1 v2 v3
  )
def wp_X0_struck_L159  (Post : Int32 → V → VL → V → V → V → V → Prop) (K84 : Int32 → Int32 → V → VL → V → V → V → V → Prop) (K102 : Int32 → Int32 → Int32 → V → VL → V → V → V → V → Prop) (i3 : Int32) (i4 : Int32) (i5 : Int32) (is0 : Int32) (is1 : Int32) (x : V) (y : VL) (v0 : V) (v1 : V) (v2 : V) (v3 : V) : Prop :=
  vp_in is1 64 ∧
  K102 i3 i4 (i5 + 1) (up2 x 3 is1.toNatClampNeg is0) y v0 v1 v2 v3
def wp_X0_struck_L188  (Post : Int32 → V → VL → V → V → V → V → Prop) (K84 : Int32 → Int32 → V → VL → V → V → V → V → Prop) (i3 : Int32) (i4 : Int32) (is0 : Int32) (is1 : Int32) (is2 : Int32) (x : V) (y : VL) (v0 : V) (v1 : V) (v2 : V) (v3 : V) : Prop :=
  wp_X0_asNumber is0 (fun r1 =>
  vp_in is2 64 ∧
  K84 i3 (i4 + 1) (up2 x 3 is2.toNatClampNeg (is1 + r1)) y v0 v1 v2 v3
  )
def wp_X0_struck_S102  (Post : Int32 → V → VL → V → V → V → V → Prop) (K84 : Int32 → Int32 → V → VL → V → V → V → V → Prop) (K102 : Int32 → Int32 → Int32 → V → VL → V → V → V → V → Prop) (i3 : Int32) (i4 : Int32) (i5 : Int32) (x : V) (y : VL) (v0 : V) (v1 : V) (v2 : V) (v3 : V) : Prop :=
  ((6 : Int32) ≤ i5 →
    vp_in i4 64 ∧
    wp_X0_netOf i4 x y v0 v1 v2 v3 (fun r1 x_1 y_1 v0_1 v1_1 v2_1 v3_1 =>
    (r1 = 0 →
      wp_X0_struck_L188 Post K84 i3 i4 (1 : Int32) (x 3 i4.toNatClampNeg) i4 x_1 y_1 v0_1 v1_1 v2_1 v3_1
    ) ∧ (¬ r1 = 0 →
      wp_X0_struck_L188 Post K84 i3 i4 (0 : Int32) (x 3 i4.toNatClampNeg) i4 x_1 y_1 v0_1 v1_1 v2_1 v3_1
    )
    )
  ) ∧ (¬ (6 : Int32) ≤ i5 →
    wp_X0_has i4 i5 (fun r2 =>
    (r2 = 0 →
      vp_in i4 64 ∧
      wp_X0_struck_L159 Post K84 K102 i3 i4 i5 (x 3 i4.toNatClampNeg) i4 x y v0 v1 v2 v3
    ) ∧ (¬ r2 = 0 →
      vp_in i4 64 ∧
      vp_in (i4 &&& (((1 : Int32) <<< (i5 &&& 31)) ^^^ (-1 : Int32))) 64 ∧
      wp_X0_struck_L159 Post K84 K102 i3 i4 i5 (if (x 3 i4.toNatClampNeg) < (x 3 (i4 &&& (((1 : Int32) <<< (i5 &&& 31)) ^^^ (-1 : Int32))).toNatClampNeg) then (x 3 (i4 &&& (((1 : Int32) <<< (i5 &&& 31)) ^^^ (-1 : Int32))).toNatClampNeg) else (x 3 i4.toNatClampNeg)) i4 x y v0 v1 v2 v3
    )
    )
  )
def wp_X0_struck_L102  (Post : Int32 → V → VL → V → V → V → V → Prop) (K84 : Int32 → Int32 → V → VL → V → V → V → V → Prop) : Nat → Int32 → Int32 → Int32 → V → VL → V → V → V → V → Prop
  | 0 => fun _ _ _ _ _ _ _ _ _ => False
  | n + 1 => wp_X0_struck_S102  Post K84 (wp_X0_struck_L102  Post K84 n)
def wp_X0_struck_L218  (Post : Int32 → V → VL → V → V → V → V → Prop)  (is0 : Int32) (x : V) (y : VL) (v0 : V) (v1 : V) (v2 : V) (v3 : V) : Prop :=
  Post is0 x y v0 v1 v2 v3
def wp_X0_struck_S84  (Post : Int32 → V → VL → V → V → V → V → Prop)  (K84 : Int32 → Int32 → V → VL → V → V → V → V → Prop) (i3 : Int32) (i4 : Int32) (x : V) (y : VL) (v0 : V) (v1 : V) (v2 : V) (v3 : V) : Prop :=
  ((64 : Int32) ≤ i4 →
    (i3 = 0 →
      wp_X0_struck_L218 Post  (0 : Int32) x y v0 v1 v2 v3
    ) ∧ (¬ i3 = 0 →
      wp_J2_bitCount i3 (fun r1 =>
      vp_in i3 64 ∧
      wp_X0_struck_L218 Post  (r1 - (x 3 i3.toNatClampNeg)) x y v0 v1 v2 v3
      )
    )
  ) ∧ (¬ (64 : Int32) ≤ i4 →
    vp_in i4 64 ∧
    ∃ n, wp_X0_struck_L102 Post K84 n i3 i4 (0 : Int32) (up2 x 3 i4.toNatClampNeg (0 : Int32)) y v0 v1 v2 v3
  )
def wp_X0_struck_L84  (Post : Int32 → V → VL → V → V → V → V → Prop)  : Nat → Int32 → Int32 → V → VL → V → V → V → V → Prop
  | 0 => fun _ _ _ _ _ _ _ _ => False
  | n + 1 => wp_X0_struck_S84  Post  (wp_X0_struck_L84  Post  n)
def wp_X0_struck_S23  (Post : Int32 → V → VL → V → V → V → V → Prop)  (K23 : Int32 → Int32 → Int32 → Int32 → V → VL → V → V → V → V → Prop) (i1 : Int32) (i2 : Int32) (i3 : Int32) (i4 : Int32) (x : V) (y : VL) (v0 : V) (v1 : V) (v2 : V) (v3 : V) : Prop :=
  ((6 : Int32) ≤ i4 →
    (i1 = (1 : Int32) →
      Post i2 x y v0 v1 v2 v3
    ) ∧ (¬ i1 = (1 : Int32) →
      ∃ n, wp_X0_struck_L84 Post  n i3 (1 : Int32) x y v0 v1 v2 v3
    )
  ) ∧ (¬ (6 : Int32) ≤ i4 →
    vp_in i4 6 ∧
    ∀ n1 : Int32, n1 = (i2 + (if (0 : Int32) < (x 2 i4.toNatClampNeg) then (x 2 i4.toNatClampNeg) else (0 : Int32))) →
    vp_in i4 6 ∧
    ((x 2 i4.toNatClampNeg) = 0 →
      wp_X0_struck_L60 Post K23 i1 n1 i4 (0 : Int32) i3 x y v0 v1 v2 v3
    ) ∧ (¬ (x 2 i4.toNatClampNeg) = 0 →
      wp_X0_struck_L60 Post K23 i1 n1 i4 (1 : Int32) i3 x y v0 v1 v2 v3
    )
  )
def wp_X0_struck_L23  (Post : Int32 → V → VL → V → V → V → V → Prop)  : Nat → Int32 → Int32 → Int32 → Int32 → V → VL → V → V → V → V → Prop
  | 0 => fun _ _ _ _ _ _ _ _ _ _ => False
  | n + 1 => wp_X0_struck_S23  Post  (wp_X0_struck_L23  Post  n)
def wp_X0_struck (i1 : Int32) (x : V) (y : VL) (v0 : V) (v1 : V) (v2 : V) (v3 : V) (Post : Int32 → V → VL → V → V → V → V → Prop) : Prop :=
  wp_X0_isIn i1 (0 : Int32) (1 : Int32) (fun r1 =>
  (r1 = 0 →
    Post (-2 : Int32) x y v0 v1 v2 v3
  ) ∧ (¬ r1 = 0 →
    wp_X0_layNet x y v0 v1 v2 v3 (fun x_2 y_2 v0_2 v1_2 v2_2 v3_2 =>
    ∃ n, wp_X0_struck_L23 Post  n i1 (0 : Int32) (0 : Int32) (0 : Int32) x_2 y_2 v0_2 v1_2 v2_2 v3_2
    )
  )
  )
def wp_X0_prints_L71  (Post : Int32 → V → VL → V → V → V → V → Prop)  (i5 : Int32) (x : V) (y : VL) (v0 : V) (v1 : V) (v2 : V) (v3 : V) : Prop :=
  Post i5 x y v0 v1 v2 v3
def wp_X0_prints_S37  (Post : Int32 → V → VL → V → V → V → V → Prop)  (K37 : Int32 → Int32 → Int64 → Int32 → Int32 → V → VL → V → V → V → V → Prop) (i1 : Int32) (i2 : Int32) (l3 : Int64) (i5 : Int32) (i6 : Int32) (x : V) (y : VL) (v0 : V) (v1 : V) (v2 : V) (v3 : V) : Prop :=
  ((999 : Int32) < i6 →
    wp_X0_prints_L71 Post  i5 x y v0 v1 v2 v3
  ) ∧ (¬ (999 : Int32) < i6 →
    wp_X0_rateOf i2 (l3 + ((100 : Int32) * i6).toInt64) (fun r1 =>
    (r1 < i1 →
      wp_X0_prints_L71 Post  i5 x y v0 v1 v2 v3
    ) ∧ (¬ r1 < i1 →
      K37 i1 i2 l3 i6 (i6 + 1) x y v0 v1 v2 v3
    )
    )
  )
def wp_X0_prints_L37  (Post : Int32 → V → VL → V → V → V → V → Prop)  : Nat → Int32 → Int32 → Int64 → Int32 → Int32 → V → VL → V → V → V → V → Prop
  | 0 => fun _ _ _ _ _ _ _ _ _ _ _ => False
  | n + 1 => wp_X0_prints_S37  Post  (wp_X0_prints_L37  Post  n)
def wp_X0_prints (i1 : Int32) (x : V) (y : VL) (v0 : V) (v1 : V) (v2 : V) (v3 : V) (Post : Int32 → V → VL → V → V → V → V → Prop) : Prop :=
  wp_X0_isIn i1 (1 : Int32) (100 : Int32) (fun r1 =>
  (r1 = 0 →
    Post (-2 : Int32) x y v0 v1 v2 v3
  ) ∧ (¬ r1 = 0 →
    wp_X1_land v0 (fun r2 v0_2 =>
    wp_X1_notes v0_2 (fun r3 v0_3 =>
    ∃ n, wp_X0_prints_L37 Post  n i1 r2 r3.toInt64 (-6 : Int32) (0 : Int32) x y v0_3 v1 v2 v3
    )
    )
  )
  )
def wp_X0_buys_L20  (Post : Int32 → V → VL → V → V → V → V → Prop)  (x : V) (y : VL) (v0 : V) (v1 : V) (v2 : V) (v3 : V) : Prop :=
  Post (-2 : Int32) x y v0 v1 v2 v3
def wp_X0_buys_L114  (Post : Int32 → V → VL → V → V → V → V → Prop) (K31 : Int32 → Int32 → Int32 → Int32 → Int32 → V → VL → V → V → V → V → Prop) (K48 : Int32 → Int32 → Int32 → Int32 → Int32 → Int32 → Int32 → Int32 → V → VL → V → V → V → V → Prop) (i1 : Int32) (i2 : Int32) (i3 : Int32) (i4 : Int32) (i5 : Int32) (i6 : Int32) (i8 : Int32) (is0 : Int32) (is1 : Int32) (x : V) (y : VL) (v0 : V) (v1 : V) (v2 : V) (v3 : V) : Prop :=
  K48 i1 i2 i3 i4 i5 i6 (is1 &&& is0) (i8 + 1) x y v0 v1 v2 v3
def wp_X0_buys_L109  (Post : Int32 → V → VL → V → V → V → V → Prop) (K31 : Int32 → Int32 → Int32 → Int32 → Int32 → V → VL → V → V → V → V → Prop) (K48 : Int32 → Int32 → Int32 → Int32 → Int32 → Int32 → Int32 → Int32 → V → VL → V → V → V → V → Prop) (i1 : Int32) (i2 : Int32) (i3 : Int32) (i4 : Int32) (i5 : Int32) (i6 : Int32) (i8 : Int32) (is0 : Int32) (x : V) (y : VL) (v0 : V) (v1 : V) (v2 : V) (v3 : V) : Prop :=
  wp_X0_buys_L114 Post K31 K48 i1 i2 i3 i4 i5 i6 i8 (1 : Int32) is0 x y v0 v1 v2 v3
def wp_X0_buys_L81  (Post : Int32 → V → VL → V → V → V → V → Prop) (K31 : Int32 → Int32 → Int32 → Int32 → Int32 → V → VL → V → V → V → V → Prop) (K48 : Int32 → Int32 → Int32 → Int32 → Int32 → Int32 → Int32 → Int32 → V → VL → V → V → V → V → Prop) (i1 : Int32) (i2 : Int32) (i3 : Int32) (i4 : Int32) (i5 : Int32) (i7 : Int32) (i8 : Int32) (is0 : Int32) (is1 : Int32) (x : V) (y : VL) (v0 : V) (v1 : V) (v2 : V) (v3 : V) : Prop :=
  wp_X0_has i5 i8 (fun r1 =>
  (r1 = 0 →
    wp_X0_buys_L109 Post K31 K48 i1 i2 i3 i4 i5 (is1 + is0) i8 i7 x y v0 v1 v2 v3
  ) ∧ (¬ r1 = 0 →
    vp_in i8 8 ∧
    (0 ≤ (v0 9 i8.toNatClampNeg) →
      wp_X0_buys_L114 Post K31 K48 i1 i2 i3 i4 i5 (is1 + is0) i8 (0 : Int32) i7 x y v0 v1 v2 v3
    ) ∧ (¬ 0 ≤ (v0 9 i8.toNatClampNeg) →
      wp_X0_buys_L109 Post K31 K48 i1 i2 i3 i4 i5 (is1 + is0) i8 i7 x y v0 v1 v2 v3
    )
  )
  )
def wp_X0_buys_L172  (Post : Int32 → V → VL → V → V → V → V → Prop) (K31 : Int32 → Int32 → Int32 → Int32 → Int32 → V → VL → V → V → V → V → Prop) (i1 : Int32) (i2 : Int32) (i4 : Int32) (i5 : Int32) (is0 : Int32) (x : V) (y : VL) (v0 : V) (v1 : V) (v2 : V) (v3 : V) : Prop :=
  K31 i1 i2 is0 i4 (i5 + 1) x y v0 v1 v2 v3
def wp_X0_buys_L159  (Post : Int32 → V → VL → V → V → V → V → Prop) (K31 : Int32 → Int32 → Int32 → Int32 → Int32 → V → VL → V → V → V → V → Prop) (i1 : Int32) (i2 : Int32) (i3 : Int32) (i5 : Int32) (i6 : Int32) (i8 : Int32) (is0 : Int32) (x : V) (y : VL) (v0 : V) (v1 : V) (v2 : V) (v3 : V) : Prop :=
  (i8 = 0 →
    wp_X0_buys_L172 Post K31 i1 i2 is0 i5 i3 x y v0 v1 v2 v3
  ) ∧ (¬ i8 = 0 →
    wp_X0_buys_L172 Post K31 i1 i2 is0 i5 i6 x y v0 v1 v2 v3
  )
def wp_X0_buys_L145  (Post : Int32 → V → VL → V → V → V → V → Prop) (K31 : Int32 → Int32 → Int32 → Int32 → Int32 → V → VL → V → V → V → V → Prop) (i1 : Int32) (i2 : Int32) (i3 : Int32) (i4 : Int32) (i5 : Int32) (i6 : Int32) (is0 : Int32) (x : V) (y : VL) (v0 : V) (v1 : V) (v2 : V) (v3 : V) : Prop :=
  (is0 = 0 →
    wp_X0_buys_L159 Post K31 i1 i2 i3 i5 i6 is0 i4 x y v0 v1 v2 v3
  ) ∧ (¬ is0 = 0 →
    wp_X0_buys_L159 Post K31 i1 i2 i3 i5 i6 is0 i5 x y v0 v1 v2 v3
  )
def wp_X0_buys_L144  (Post : Int32 → V → VL → V → V → V → V → Prop) (K31 : Int32 → Int32 → Int32 → Int32 → Int32 → V → VL → V → V → V → V → Prop) (i1 : Int32) (i2 : Int32) (i3 : Int32) (i4 : Int32) (i5 : Int32) (i6 : Int32) (x : V) (y : VL) (v0 : V) (v1 : V) (v2 : V) (v3 : V) : Prop :=
  wp_X0_buys_L145 Post K31 i1 i2 i3 i4 i5 i6 (0 : Int32) x y v0 v1 v2 v3
def wp_X0_buys_S48  (Post : Int32 → V → VL → V → V → V → V → Prop) (K31 : Int32 → Int32 → Int32 → Int32 → Int32 → V → VL → V → V → V → V → Prop) (K48 : Int32 → Int32 → Int32 → Int32 → Int32 → Int32 → Int32 → Int32 → V → VL → V → V → V → V → Prop) (i1 : Int32) (i2 : Int32) (i3 : Int32) (i4 : Int32) (i5 : Int32) (i6 : Int32) (i7 : Int32) (i8 : Int32) (x : V) (y : VL) (v0 : V) (v1 : V) (v2 : V) (v3 : V) : Prop :=
  ((8 : Int32) ≤ i8 →
    (i7 = 0 →
      wp_X0_buys_L144 Post K31 i1 i2 i3 i4 i5 i6 x y v0 v1 v2 v3
    ) ∧ (¬ i7 = 0 →
      (i1 < i6 →
        wp_X0_buys_L144 Post K31 i1 i2 i3 i4 i5 i6 x y v0 v1 v2 v3
      ) ∧ (¬ i1 < i6 →
        (i6 ≤ i3 →
          wp_X0_buys_L144 Post K31 i1 i2 i3 i4 i5 i6 x y v0 v1 v2 v3
        ) ∧ (¬ i6 ≤ i3 →
          wp_X0_buys_L145 Post K31 i1 i2 i3 i4 i5 i6 (1 : Int32) x y v0 v1 v2 v3
        )
      )
    )
  ) ∧ (¬ (8 : Int32) ≤ i8 →
    wp_X0_has i5 i8 (fun r1 =>
    (r1 = 0 →
      wp_X0_buys_L81 Post K31 K48 i1 i2 i3 i4 i5 i7 i8 (0 : Int32) i6 x y v0 v1 v2 v3
    ) ∧ (¬ r1 = 0 →
      vp_in i8 8 ∧
      wp_X0_buys_L81 Post K31 K48 i1 i2 i3 i4 i5 i7 i8 (v0 8 i8.toNatClampNeg) i6 x y v0 v1 v2 v3
    )
    )
  )
def wp_X0_buys_L48  (Post : Int32 → V → VL → V → V → V → V → Prop) (K31 : Int32 → Int32 → Int32 → Int32 → Int32 → V → VL → V → V → V → V → Prop) : Nat → Int32 → Int32 → Int32 → Int32 → Int32 → Int32 → Int32 → Int32 → V → VL → V → V → V → V → Prop
  | 0 => fun _ _ _ _ _ _ _ _ _ _ _ _ _ _ => False
  | n + 1 => wp_X0_buys_S48  Post K31 (wp_X0_buys_L48  Post K31 n)
def wp_X0_buys_L189  (Post : Int32 → V → VL → V → V → V → V → Prop)  (is0 : Int32) (x : V) (y : VL) (v0 : V) (v1 : V) (v2 : V) (v3 : V) : Prop :=
  Post is0 x y v0 v1 v2 v3
def wp_X0_buys_S31  (Post : Int32 → V → VL → V → V → V → V → Prop)  (K31 : Int32 → Int32 → Int32 → Int32 → Int32 → V → VL → V → V → V → V → Prop) (i1 : Int32) (i2 : Int32) (i3 : Int32) (i4 : Int32) (i5 : Int32) (x : V) (y : VL) (v0 : V) (v1 : V) (v2 : V) (v3 : V) : Prop :=
  ((256 : Int32) ≤ i5 →
    (i2 = 0 →
      wp_X0_buys_L189 Post  i3 x y v0 v1 v2 v3
    ) ∧ (¬ i2 = 0 →
      wp_X0_buys_L189 Post  i4 x y v0 v1 v2 v3
    )
  ) ∧ (¬ (256 : Int32) ≤ i5 →
    ∃ n, wp_X0_buys_L48 Post K31 n i1 i2 i3 i4 i5 (0 : Int32) (1 : Int32) (0 : Int32) x y v0 v1 v2 v3
  )
def wp_X0_buys_L31  (Post : Int32 → V → VL → V → V → V → V → Prop)  : Nat → Int32 → Int32 → Int32 → Int32 → Int32 → V → VL → V → V → V → V → Prop
  | 0 => fun _ _ _ _ _ _ _ _ _ _ _ => False
  | n + 1 => wp_X0_buys_S31  Post  (wp_X0_buys_L31  Post  n)
def wp_X0_buys (i1 : Int32) (i2 : Int32) (x : V) (y : VL) (v0 : V) (v1 : V) (v2 : V) (v3 : V) (Post : Int32 → V → VL → V → V → V → V → Prop) : Prop :=
  wp_X0_isIn i1 (0 : Int32) (9999 : Int32) (fun r1 =>
  (r1 = 0 →
    wp_X0_buys_L20 Post  x y v0 v1 v2 v3
  ) ∧ (¬ r1 = 0 →
    wp_X0_isIn i2 (0 : Int32) (1 : Int32) (fun r2 =>
    (r2 = 0 →
      wp_X0_buys_L20 Post  x y v0 v1 v2 v3
    ) ∧ (¬ r2 = 0 →
      ∃ n, wp_X0_buys_L31 Post  n i1 i2 (0 : Int32) (0 : Int32) (0 : Int32) x y v0 v1 v2 v3
    )
    )
  )
  )
def wp_X0_runs_L30  (Post : Int32 → V → VL → V → V → V → V → Prop)  (x : V) (y : VL) (v0 : V) (v1 : V) (v2 : V) (v3 : V) : Prop :=
  Post (-2 : Int32) x y v0 v1 v2 v3
def wp_X0_runs_S49  (Post : Int32 → V → VL → V → V → V → V → Prop)  (K49 : Int32 → Int32 → Int32 → Int64 → Int32 → V → VL → V → V → V → V → Prop) (i2 : Int32) (i3 : Int32) (i4 : Int32) (l5 : Int64) (i7 : Int32) (x : V) (y : VL) (v0 : V) (v1 : V) (v2 : V) (v3 : V) : Prop :=
  ((100 : Int32) < i7 →
    Post (-6 : Int32) x y v0 v1 v2 v3
  ) ∧ (¬ (100 : Int32) < i7 →
    wp_X0_rateOf i4 l5 (fun r1 =>
    (i3 ≤ r1 →
      ∀ n2 : Int64, n2 = (l5 + (((l5 * i2.toInt64) / (100 : Int64)) + ((100 : Int64) * ((100 : Int32) - r1).toInt64))) →
      K49 i2 i3 i4 n2 (i7 + 1) x y v0 v1 v2 v3
    ) ∧ (¬ i3 ≤ r1 →
      Post i7 x y v0 v1 v2 v3
    )
    )
  )
def wp_X0_runs_L49  (Post : Int32 → V → VL → V → V → V → V → Prop)  : Nat → Int32 → Int32 → Int32 → Int64 → Int32 → V → VL → V → V → V → V → Prop
  | 0 => fun _ _ _ _ _ _ _ _ _ _ _ => False
  | n + 1 => wp_X0_runs_S49  Post  (wp_X0_runs_L49  Post  n)
def wp_X0_runs (i1 : Int32) (i2 : Int32) (i3 : Int32) (x : V) (y : VL) (v0 : V) (v1 : V) (v2 : V) (v3 : V) (Post : Int32 → V → VL → V → V → V → V → Prop) : Prop :=
  wp_X0_isIn i1 (1 : Int32) (99999 : Int32) (fun r1 =>
  (r1 = 0 →
    wp_X0_runs_L30 Post  x y v0 v1 v2 v3
  ) ∧ (¬ r1 = 0 →
    wp_X0_isIn i2 (0 : Int32) (99 : Int32) (fun r2 =>
    (r2 = 0 →
      wp_X0_runs_L30 Post  x y v0 v1 v2 v3
    ) ∧ (¬ r2 = 0 →
      wp_X0_isIn i3 (1 : Int32) (100 : Int32) (fun r3 =>
      (r3 = 0 →
        wp_X0_runs_L30 Post  x y v0 v1 v2 v3
      ) ∧ (¬ r3 = 0 →
        wp_X1_land v0 (fun r4 v0_4 =>
        ∃ n, wp_X0_runs_L49 Post  n i2 i3 r4 i1.toInt64 (0 : Int32) x y v0_4 v1 v2 v3
        )
      )
      )
    )
    )
  )
  )
def wp_X0_digit_S7  (Post : Int32 → Prop)  (K7 : Int32 → Int32 → Int32 → Prop) (i1 : Int32) (i3 : Int32) (i4 : Int32) : Prop :=
  (i4 ≤ i1 →
    Post (i3 - i3 / (10 : Int32) * (10 : Int32))
  ) ∧ (¬ i4 ≤ i1 →
    K7 i1 (i3 / (10 : Int32)) (i4 + (-1))
  )
def wp_X0_digit_L7  (Post : Int32 → Prop)  : Nat → Int32 → Int32 → Int32 → Prop
  | 0 => fun _ _ _ => False
  | n + 1 => wp_X0_digit_S7  Post  (wp_X0_digit_L7  Post  n)
def wp_X0_digit (i0 : Int32) (i1 : Int32) (i2 : Int32) (Post : Int32 → Prop) : Prop :=
  ∃ n, wp_X0_digit_L7 Post  n i1 i0 (i2 - (1 : Int32))
def wp_X0_wages_L20  (Post : Int32 → V → VL → V → V → V → V → Prop)  (x : V) (y : VL) (v0 : V) (v1 : V) (v2 : V) (v3 : V) : Prop :=
  Post (-2 : Int32) x y v0 v1 v2 v3
def wp_X0_wages_L55  (Post : Int32 → V → VL → V → V → V → V → Prop) (K28 : Int32 → Int32 → Int32 → Int32 → V → VL → V → V → V → V → Prop) (i1 : Int32) (i2 : Int32) (i3 : Int32) (i4 : Int32) (is0 : Int32) (x : V) (y : VL) (v0 : V) (v1 : V) (v2 : V) (v3 : V) : Prop :=
  wp_X0_digit i1 i4 (9 : Int32) (fun r1 =>
  K28 i1 i2 (i3 + (if (0 : Int32) < (r1 - is0) then (r1 - is0) else (0 : Int32))) (i4 + 1) x y v0 v1 v2 v3
  )
def wp_X0_wages_S28  (Post : Int32 → V → VL → V → V → V → V → Prop)  (K28 : Int32 → Int32 → Int32 → Int32 → V → VL → V → V → V → V → Prop) (i1 : Int32) (i2 : Int32) (i3 : Int32) (i4 : Int32) (x : V) (y : VL) (v0 : V) (v1 : V) (v2 : V) (v3 : V) : Prop :=
  ((9 : Int32) ≤ i4 →
    Post i3 x y v0 v1 v2 v3
  ) ∧ (¬ (9 : Int32) ≤ i4 →
    (i2 ≤ i4 →
      wp_X0_digit i1 (i4 - i2) (9 : Int32) (fun r1 =>
      wp_X0_wages_L55 Post K28 i1 i2 i3 i4 r1 x y v0 v1 v2 v3
      )
    ) ∧ (¬ i2 ≤ i4 →
      wp_X0_wages_L55 Post K28 i1 i2 i3 i4 (0 : Int32) x y v0 v1 v2 v3
    )
  )
def wp_X0_wages_L28  (Post : Int32 → V → VL → V → V → V → V → Prop)  : Nat → Int32 → Int32 → Int32 → Int32 → V → VL → V → V → V → V → Prop
  | 0 => fun _ _ _ _ _ _ _ _ _ _ => False
  | n + 1 => wp_X0_wages_S28  Post  (wp_X0_wages_L28  Post  n)
def wp_X0_wages (i1 : Int32) (i2 : Int32) (x : V) (y : VL) (v0 : V) (v1 : V) (v2 : V) (v3 : V) (Post : Int32 → V → VL → V → V → V → V → Prop) : Prop :=
  wp_X0_isIn i1 (0 : Int32) (999999999 : Int32) (fun r1 =>
  (r1 = 0 →
    wp_X0_wages_L20 Post  x y v0 v1 v2 v3
  ) ∧ (¬ r1 = 0 →
    wp_X0_isIn i2 (0 : Int32) (8 : Int32) (fun r2 =>
    (r2 = 0 →
      wp_X0_wages_L20 Post  x y v0 v1 v2 v3
    ) ∧ (¬ r2 = 0 →
      ∃ n, wp_X0_wages_L28 Post  n i1 i2 (0 : Int32) (0 : Int32) x y v0 v1 v2 v3
    )
    )
  )
  )
def wp_X0_divisor_L17  (Post : Int64 → Prop)  (ls0 : Int64) : Prop :=
  Post ls0
def wp_X0_divisor_S (K : Int64 → Int64 → (Int64 → Prop) → Prop) (l0 : Int64) (l2 : Int64) (Post : Int64 → Prop) : Prop :=
  ((lg_cmp l2 (0 : Int64)) = 0 →
    wp_X0_divisor_L17 Post  l0
  ) ∧ (¬ (lg_cmp l2 (0 : Int64)) = 0 →
    ¬ l2 = 0 ∧
    K l2 (l0 - l0 / l2 * l2) (fun r1 =>
    wp_X0_divisor_L17 Post  r1
    )
  )
def wp_X0_divisor : Nat → Int64 → Int64 → (Int64 → Prop) → Prop
  | 0 => fun _ _ _ => False
  | d + 1 => wp_X0_divisor_S (wp_X0_divisor d)
def wp_X0_change_L50  (Post : Int64 → V → VL → V → V → V → V → Prop)  (x : V) (y : VL) (v0 : V) (v1 : V) (v2 : V) (v3 : V) : Prop :=
  Post (-1000000000000000002 : Int64) x y v0 v1 v2 v3
def wp_X0_change_L220  (Post : Int64 → V → VL → V → V → V → V → Prop) (K92 : Int32 → Int32 → Int32 → Int32 → Int32 → Int64 → Int32 → Int32 → V → VL → V → V → V → V → Prop) (K127 : Int32 → Int32 → Int32 → Int32 → Int32 → Int64 → Int32 → Int32 → Int32 → V → VL → V → V → V → V → Prop) (i1 : Int32) (i2 : Int32) (i3 : Int32) (i4 : Int32) (i5 : Int32) (l6 : Int64) (i9 : Int32) (i10 : Int32) (is0 : Int32) (x : V) (y : VL) (v0 : V) (v1 : V) (v2 : V) (v3 : V) : Prop :=
  K127 i1 i2 i3 i4 i5 l6 is0 i9 (i10 + 1) x y v0 v1 v2 v3
def wp_X0_change_S127  (Post : Int64 → V → VL → V → V → V → V → Prop) (K92 : Int32 → Int32 → Int32 → Int32 → Int32 → Int64 → Int32 → Int32 → V → VL → V → V → V → V → Prop) (K127 : Int32 → Int32 → Int32 → Int32 → Int32 → Int64 → Int32 → Int32 → Int32 → V → VL → V → V → V → V → Prop) (i1 : Int32) (i2 : Int32) (i3 : Int32) (i4 : Int32) (i5 : Int32) (l6 : Int64) (i8 : Int32) (i9 : Int32) (i10 : Int32) (x : V) (y : VL) (v0 : V) (v1 : V) (v2 : V) (v3 : V) : Prop :=
  (((69 : Int32) - i9) ≤ i10 →
    K92 i1 i2 i3 i4 i5 l6 i8 (i9 + 1) x y v0 v1 v2 v3
  ) ∧ (¬ ((69 : Int32) - i9) ≤ i10 →
    vp_in (if (0 : Int32) < (i10 - (3 : Int32)) then (i10 - (3 : Int32)) else (0 : Int32)) 69 ∧
    vp_in (i10 + (1 : Int32)) 69 ∧
    ∀ n1 : Int64, n1 = ((i3.toInt64 * (y 1 (if (0 : Int32) < (i10 - (3 : Int32)) then (i10 - (3 : Int32)) else (0 : Int32)).toNatClampNeg)) + (((10 : Int32) - i3).toInt64 * (y 1 (i10 + (1 : Int32)).toNatClampNeg))) →
    vp_in i10 69 ∧
    (i10 = i1 →
      ((lg_cmp (i10.toInt64 * l6) n1) < 0 →
        wp_X0_change_L220 Post K92 K127 i1 i2 i3 i4 i5 l6 i9 i10 (0 : Int32) x (upL2 y 0 i10.toNatClampNeg (if n1 < (i10.toInt64 * l6) then (i10.toInt64 * l6) else n1)) v0 v1 v2 v3
      ) ∧ (¬ (lg_cmp (i10.toInt64 * l6) n1) < 0 →
        wp_X0_change_L220 Post K92 K127 i1 i2 i3 i4 i5 l6 i9 i10 (1 : Int32) x (upL2 y 0 i10.toNatClampNeg (if n1 < (i10.toInt64 * l6) then (i10.toInt64 * l6) else n1)) v0 v1 v2 v3
      )
    ) ∧ (¬ i10 = i1 →
      wp_X0_change_L220 Post K92 K127 i1 i2 i3 i4 i5 l6 i9 i10 i8 x (upL2 y 0 i10.toNatClampNeg (if n1 < (i10.toInt64 * l6) then (i10.toInt64 * l6) else n1)) v0 v1 v2 v3
    )
  )
def wp_X0_change_L127  (Post : Int64 → V → VL → V → V → V → V → Prop) (K92 : Int32 → Int32 → Int32 → Int32 → Int32 → Int64 → Int32 → Int32 → V → VL → V → V → V → V → Prop) : Nat → Int32 → Int32 → Int32 → Int32 → Int32 → Int64 → Int32 → Int32 → Int32 → V → VL → V → V → V → V → Prop
  | 0 => fun _ _ _ _ _ _ _ _ _ _ _ _ _ _ _ => False
  | n + 1 => wp_X0_change_S127  Post K92 (wp_X0_change_L127  Post K92 n)
def wp_X0_change_L282  (Post : Int64 → V → VL → V → V → V → V → Prop)  (ls0 : Int64) (x : V) (y : VL) (v0 : V) (v1 : V) (v2 : V) (v3 : V) : Prop :=
  Post ls0 x y v0 v1 v2 v3
def wp_X0_change_S92  (Post : Int64 → V → VL → V → V → V → V → Prop)  (K92 : Int32 → Int32 → Int32 → Int32 → Int32 → Int64 → Int32 → Int32 → V → VL → V → V → V → V → Prop) (i1 : Int32) (i2 : Int32) (i3 : Int32) (i4 : Int32) (i5 : Int32) (l6 : Int64) (i8 : Int32) (i9 : Int32) (x : V) (y : VL) (v0 : V) (v1 : V) (v2 : V) (v3 : V) : Prop :=
  (i2 < i9 →
    (i4 = (1 : Int32) →
      wp_X0_asNumber i8 (fun r2 =>
      Post r2.toInt64 x y v0 v1 v2 v3
      )
    ) ∧ (¬ i4 = (1 : Int32) →
      vp_in i1 69 ∧
      wp_X0_divisor 100 (y 0 i1.toNatClampNeg) l6 (fun r1 =>
      (i5 = 0 →
        vp_in i1 69 ∧
        ¬ r1 = 0 ∧
        wp_X0_change_L282 Post  ((y 0 i1.toNatClampNeg) / r1) x y v0 v1 v2 v3
      ) ∧ (¬ i5 = 0 →
        ¬ r1 = 0 ∧
        wp_X0_change_L282 Post  (l6 / r1) x y v0 v1 v2 v3
      )
      )
    )
  ) ∧ (¬ i2 < i9 →
    ∃ n, wp_X0_change_L127 Post K92 n i1 i2 i3 i4 i5 (l6 * (10 : Int64)) i8 i9 (0 : Int32) x (upRgL y 1 (va_cpy (y 0) (y 1) 0 0 69)) v0 v1 v2 v3
  )
def wp_X0_change_L92  (Post : Int64 → V → VL → V → V → V → V → Prop)  : Nat → Int32 → Int32 → Int32 → Int32 → Int32 → Int64 → Int32 → Int32 → V → VL → V → V → V → V → Prop
  | 0 => fun _ _ _ _ _ _ _ _ _ _ _ _ _ _ => False
  | n + 1 => wp_X0_change_S92  Post  (wp_X0_change_L92  Post  n)
def wp_X0_change_S63  (Post : Int64 → V → VL → V → V → V → V → Prop)  (K63 : Int32 → Int32 → Int32 → Int32 → Int32 → Int32 → V → VL → V → V → V → V → Prop) (i1 : Int32) (i2 : Int32) (i3 : Int32) (i4 : Int32) (i5 : Int32) (i9 : Int32) (x : V) (y : VL) (v0 : V) (v1 : V) (v2 : V) (v3 : V) : Prop :=
  ((69 : Int32) ≤ i9 →
    ∃ n, wp_X0_change_L92 Post  n i1 i2 i3 i4 i5 (1 : Int64) (1 : Int32) (1 : Int32) x y v0 v1 v2 v3
  ) ∧ (¬ (69 : Int32) ≤ i9 →
    vp_in i9 69 ∧
    K63 i1 i2 i3 i4 i5 (i9 + 1) x (upL2 y 0 i9.toNatClampNeg i9.toInt64) v0 v1 v2 v3
  )
def wp_X0_change_L63  (Post : Int64 → V → VL → V → V → V → V → Prop)  : Nat → Int32 → Int32 → Int32 → Int32 → Int32 → Int32 → V → VL → V → V → V → V → Prop
  | 0 => fun _ _ _ _ _ _ _ _ _ _ _ _ => False
  | n + 1 => wp_X0_change_S63  Post  (wp_X0_change_L63  Post  n)
def wp_X0_change (i1 : Int32) (i2 : Int32) (i3 : Int32) (i4 : Int32) (i5 : Int32) (x : V) (y : VL) (v0 : V) (v1 : V) (v2 : V) (v3 : V) (Post : Int64 → V → VL → V → V → V → V → Prop) : Prop :=
  wp_X0_isIn i1 (0 : Int32) (60 : Int32) (fun r1 =>
  (r1 = 0 →
    wp_X0_change_L50 Post  x y v0 v1 v2 v3
  ) ∧ (¬ r1 = 0 →
    wp_X0_isIn i2 (0 : Int32) (8 : Int32) (fun r2 =>
    (r2 = 0 →
      wp_X0_change_L50 Post  x y v0 v1 v2 v3
    ) ∧ (¬ r2 = 0 →
      wp_X0_isIn i3 (0 : Int32) (10 : Int32) (fun r3 =>
      (r3 = 0 →
        wp_X0_change_L50 Post  x y v0 v1 v2 v3
      ) ∧ (¬ r3 = 0 →
        wp_X0_isIn i4 (0 : Int32) (1 : Int32) (fun r4 =>
        (r4 = 0 →
          wp_X0_change_L50 Post  x y v0 v1 v2 v3
        ) ∧ (¬ r4 = 0 →
          wp_X0_isIn i5 (0 : Int32) (1 : Int32) (fun r5 =>
          (r5 = 0 →
            wp_X0_change_L50 Post  x y v0 v1 v2 v3
          ) ∧ (¬ r5 = 0 →
            ∃ n, wp_X0_change_L63 Post  n i1 i2 i3 i4 i5 (0 : Int32) x y v0 v1 v2 v3
          )
          )
        )
        )
      )
      )
    )
    )
  )
  )
def wp_X0_choose_L9  (Post : Int64 → Prop)   : Prop :=
  Post (0 : Int64)
def wp_X0_choose_S16  (Post : Int64 → Prop)  (K16 : Int32 → Int32 → Int64 → Int32 → Prop) (i0 : Int32) (i1 : Int32) (l2 : Int64) (i4 : Int32) : Prop :=
  (i1 ≤ i4 →
    Post l2
  ) ∧ (¬ i1 ≤ i4 →
    ¬ (i4 + (1 : Int32)).toInt64 = 0 ∧
    K16 i0 i1 ((l2 * (i0 - i4).toInt64) / (i4 + (1 : Int32)).toInt64) (i4 + 1)
  )
def wp_X0_choose_L16  (Post : Int64 → Prop)  : Nat → Int32 → Int32 → Int64 → Int32 → Prop
  | 0 => fun _ _ _ _ => False
  | n + 1 => wp_X0_choose_S16  Post  (wp_X0_choose_L16  Post  n)
def wp_X0_choose (i0 : Int32) (i1 : Int32) (Post : Int64 → Prop) : Prop :=
  (i1 < 0 →
    wp_X0_choose_L9 Post  
  ) ∧ (¬ i1 < 0 →
    (i1 ≤ i0 →
      ∃ n, wp_X0_choose_L16 Post  n i0 i1 (1 : Int64) (0 : Int32)
    ) ∧ (¬ i1 ≤ i0 →
      wp_X0_choose_L9 Post  
    )
  )
def wp_X0_sample_L48  (Post : Int64 → V → VL → V → V → V → V → Prop)  (x : V) (y : VL) (v0 : V) (v1 : V) (v2 : V) (v3 : V) : Prop :=
  Post (-1000000000000000002 : Int64) x y v0 v1 v2 v3
def wp_X0_sample_L105  (Post : Int64 → V → VL → V → V → V → V → Prop)  (ls0 : Int64) (x : V) (y : VL) (v0 : V) (v1 : V) (v2 : V) (v3 : V) : Prop :=
  Post ls0 x y v0 v1 v2 v3
def wp_X0_sample (i1 : Int32) (i2 : Int32) (i3 : Int32) (i4 : Int32) (i5 : Int32) (x : V) (y : VL) (v0 : V) (v1 : V) (v2 : V) (v3 : V) (Post : Int64 → V → VL → V → V → V → V → Prop) : Prop :=
  wp_X0_isIn i1 (1 : Int32) (30 : Int32) (fun r1 =>
  (r1 = 0 →
    wp_X0_sample_L48 Post  x y v0 v1 v2 v3
  ) ∧ (¬ r1 = 0 →
    wp_X0_isIn i2 (0 : Int32) i1 (fun r2 =>
    (r2 = 0 →
      wp_X0_sample_L48 Post  x y v0 v1 v2 v3
    ) ∧ (¬ r2 = 0 →
      wp_X0_isIn i3 (0 : Int32) i1 (fun r3 =>
      (r3 = 0 →
        wp_X0_sample_L48 Post  x y v0 v1 v2 v3
      ) ∧ (¬ r3 = 0 →
        wp_X0_isIn i4 (0 : Int32) i3 (fun r4 =>
        (r4 = 0 →
          wp_X0_sample_L48 Post  x y v0 v1 v2 v3
        ) ∧ (¬ r4 = 0 →
          wp_X0_isIn i5 (0 : Int32) (1 : Int32) (fun r5 =>
          (r5 = 0 →
            wp_X0_sample_L48 Post  x y v0 v1 v2 v3
          ) ∧ (¬ r5 = 0 →
            wp_X0_choose i2 i4 (fun r6 =>
            wp_X0_choose (i1 - i2) (i3 - i4) (fun r7 =>
            wp_X0_choose i1 i3 (fun r8 =>
            wp_X0_divisor 100 (r6 * r7) r8 (fun r9 =>
            (i5 = 0 →
              ¬ r9 = 0 ∧
              wp_X0_sample_L105 Post  ((r6 * r7) / r9) x y v0 v1 v2 v3
            ) ∧ (¬ i5 = 0 →
              ¬ r9 = 0 ∧
              wp_X0_sample_L105 Post  (r8 / r9) x y v0 v1 v2 v3
            )
            )
            )
            )
            )
          )
          )
        )
        )
      )
      )
    )
    )
  )
  )
def wp_X0_seen_L30  (Post : Int32 → V → VL → V → V → V → V → Prop)  (x : V) (y : VL) (v0 : V) (v1 : V) (v2 : V) (v3 : V) : Prop :=
  Post (-2 : Int32) x y v0 v1 v2 v3
def wp_X0_seen (i1 : Int32) (i2 : Int32) (i3 : Int32) (x : V) (y : VL) (v0 : V) (v1 : V) (v2 : V) (v3 : V) (Post : Int32 → V → VL → V → V → V → V → Prop) : Prop :=
  wp_X0_isIn i1 (0 : Int32) (255 : Int32) (fun r1 =>
  (r1 = 0 →
    wp_X0_seen_L30 Post  x y v0 v1 v2 v3
  ) ∧ (¬ r1 = 0 →
    wp_X0_isIn i2 (0 : Int32) (8 : Int32) (fun r2 =>
    (r2 = 0 →
      wp_X0_seen_L30 Post  x y v0 v1 v2 v3
    ) ∧ (¬ r2 = 0 →
      wp_X0_isIn i3 (0 : Int32) (1 : Int32) (fun r3 =>
      (r3 = 0 →
        wp_X0_seen_L30 Post  x y v0 v1 v2 v3
      ) ∧ (¬ r3 = 0 →
        ((v0 14 2) = (8 : Int32) →
          Post (-4 : Int32) x y v0 v1 v2 v3
        ) ∧ (¬ (v0 14 2) = (8 : Int32) →
          vp_in (v0 14 2) 8 ∧
          vp_in (v0 14 2) 8 ∧
          vp_in (v0 14 2) 8 ∧
          Post ((v0 14 2) + (1 : Int32)) x y (up2 (up2 (up2 (up2 v0 11 (v0 14 2).toNatClampNeg i1) 12 (v0 14 2).toNatClampNeg i2) 13 (v0 14 2).toNatClampNeg i3) 14 2 ((v0 14 2) + (1 : Int32))) v1 v2 v3
        )
      )
      )
    )
    )
  )
  )
def wp_X0_forget (x : V) (y : VL) (v0 : V) (v1 : V) (v2 : V) (v3 : V) (Post : Int32 → V → VL → V → V → V → V → Prop) : Prop :=
  Post (v0 14 2) x y (up2 v0 14 2 (0 : Int32)) v1 v2 v3
def wp_X0_canBe_L108  (Post : Int32 → V → VL → V → V → V → V → Prop) (K17 : Int32 → Int32 → Int32 → V → VL → V → V → V → V → Prop) (i1 : Int32) (i4 : Int32) (is0 : Int32) (x : V) (y : VL) (v0 : V) (v1 : V) (v2 : V) (v3 : V) : Prop :=
  K17 i1 is0 (i4 + 1) x y v0 v1 v2 v3
def wp_X0_canBe_L115  (Post : Int32 → V → VL → V → V → V → V → Prop)  (i3 : Int32) (x : V) (y : VL) (v0 : V) (v1 : V) (v2 : V) (v3 : V) : Prop :=
  narrow .boolean (.int i3) = .int i3 ∧
  Post i3 x y v0 v1 v2 v3
def wp_X0_canBe_S17  (Post : Int32 → V → VL → V → V → V → V → Prop)  (K17 : Int32 → Int32 → Int32 → V → VL → V → V → V → V → Prop) (i1 : Int32) (i3 : Int32) (i4 : Int32) (x : V) (y : VL) (v0 : V) (v1 : V) (v2 : V) (v3 : V) : Prop :=
  ((v0 14 2) ≤ i4 →
    wp_X0_canBe_L115 Post  i3 x y v0 v1 v2 v3
  ) ∧ (¬ (v0 14 2) ≤ i4 →
    (i3 = 0 →
      wp_X0_canBe_L115 Post  i3 x y v0 v1 v2 v3
    ) ∧ (¬ i3 = 0 →
      vp_in i4 8 ∧
      wp_J2_bitCount ((v0 11 i4.toNatClampNeg) &&& (i1 ^^^ (-1 : Int32))) (fun r1 =>
      vp_in i4 8 ∧
      ((v0 13 i4.toNatClampNeg) = 0 →
        vp_in i4 8 ∧
        (r1 = (v0 12 i4.toNatClampNeg) →
          wp_X0_canBe_L108 Post K17 i1 i4 (1 : Int32) x y v0 v1 v2 v3
        ) ∧ (¬ r1 = (v0 12 i4.toNatClampNeg) →
          wp_X0_canBe_L108 Post K17 i1 i4 (0 : Int32) x y v0 v1 v2 v3
        )
      ) ∧ (¬ (v0 13 i4.toNatClampNeg) = 0 →
        vp_in i4 8 ∧
        (r1 < (v0 12 i4.toNatClampNeg) →
          wp_X0_canBe_L108 Post K17 i1 i4 (0 : Int32) x y v0 v1 v2 v3
        ) ∧ (¬ r1 < (v0 12 i4.toNatClampNeg) →
          wp_X0_canBe_L108 Post K17 i1 i4 (1 : Int32) x y v0 v1 v2 v3
        )
      )
      )
    )
  )
def wp_X0_canBe_L17  (Post : Int32 → V → VL → V → V → V → V → Prop)  : Nat → Int32 → Int32 → Int32 → V → VL → V → V → V → V → Prop
  | 0 => fun _ _ _ _ _ _ _ _ _ => False
  | n + 1 => wp_X0_canBe_S17  Post  (wp_X0_canBe_L17  Post  n)
def wp_X0_canBe_L13  (Post : Int32 → V → VL → V → V → V → V → Prop)  (i1 : Int32) (is0 : Int32) (x : V) (y : VL) (v0 : V) (v1 : V) (v2 : V) (v3 : V) : Prop :=
  ∃ n, wp_X0_canBe_L17 Post  n i1 is0 (0 : Int32) x y v0 v1 v2 v3
def wp_X0_canBe (i1 : Int32) (i2 : Int32) (x : V) (y : VL) (v0 : V) (v1 : V) (v2 : V) (v3 : V) (Post : Int32 → V → VL → V → V → V → V → Prop) : Prop :=
  wp_J2_bitCount i1 (fun r1 =>
  (i2 < r1 →
    wp_X0_canBe_L13 Post  i1 (0 : Int32) x y v0 v1 v2 v3
  ) ∧ (¬ i2 < r1 →
    wp_X0_canBe_L13 Post  i1 (1 : Int32) x y v0 v1 v2 v3
  )
  )
def wp_X0_clerks_L46  (Post : Int32 → V → VL → V → V → V → V → Prop) (K17 : Int32 → Int32 → Int32 → Int32 → V → VL → V → V → V → V → Prop) (i1 : Int32) (i2 : Int32) (i3 : Int32) (i4 : Int32) (x : V) (y : VL) (v0 : V) (v1 : V) (v2 : V) (v3 : V) : Prop :=
  K17 i1 i2 i3 (i4 + 1) x y v0 v1 v2 v3
def wp_X0_clerks_L63  (Post : Int32 → V → VL → V → V → V → V → Prop)  (is0 : Int32) (x : V) (y : VL) (v0 : V) (v1 : V) (v2 : V) (v3 : V) : Prop :=
  Post is0 x y v0 v1 v2 v3
def wp_X0_clerks_S17  (Post : Int32 → V → VL → V → V → V → V → Prop)  (K17 : Int32 → Int32 → Int32 → Int32 → V → VL → V → V → V → V → Prop) (i1 : Int32) (i2 : Int32) (i3 : Int32) (i4 : Int32) (x : V) (y : VL) (v0 : V) (v1 : V) (v2 : V) (v3 : V) : Prop :=
  ((256 : Int32) ≤ i4 →
    (i2 = (-1 : Int32) →
      wp_X0_clerks_L63 Post  i3 x y v0 v1 v2 v3
    ) ∧ (¬ i2 = (-1 : Int32) →
      wp_X0_clerks_L63 Post  (-6 : Int32) x y v0 v1 v2 v3
    )
  ) ∧ (¬ (256 : Int32) ≤ i4 →
    wp_X0_canBe i4 i1 x y v0 v1 v2 v3 (fun r1 x_1 y_1 v0_1 v1_1 v2_1 v3_1 =>
    (r1 = 0 →
      wp_X0_clerks_L46 Post K17 i1 i2 i3 i4 x_1 y_1 v0_1 v1_1 v2_1 v3_1
    ) ∧ (¬ r1 = 0 →
      (i3 = i2 →
        Post i4 x_1 y_1 v0_1 v1_1 v2_1 v3_1
      ) ∧ (¬ i3 = i2 →
        wp_X0_clerks_L46 Post K17 i1 i2 (i3 + 1) i4 x_1 y_1 v0_1 v1_1 v2_1 v3_1
      )
    )
    )
  )
def wp_X0_clerks_L17  (Post : Int32 → V → VL → V → V → V → V → Prop)  : Nat → Int32 → Int32 → Int32 → Int32 → V → VL → V → V → V → V → Prop
  | 0 => fun _ _ _ _ _ _ _ _ _ _ => False
  | n + 1 => wp_X0_clerks_S17  Post  (wp_X0_clerks_L17  Post  n)
def wp_X0_clerks (i1 : Int32) (i2 : Int32) (x : V) (y : VL) (v0 : V) (v1 : V) (v2 : V) (v3 : V) (Post : Int32 → V → VL → V → V → V → V → Prop) : Prop :=
  wp_X0_isIn i1 (0 : Int32) (3 : Int32) (fun r1 =>
  (r1 = 0 →
    Post (-2 : Int32) x y v0 v1 v2 v3
  ) ∧ (¬ r1 = 0 →
    ∃ n, wp_X0_clerks_L17 Post  n i1 i2 (0 : Int32) (0 : Int32) x y v0 v1 v2 v3
  )
  )
def wp_X0_count_L18  (Post : Int32 → V → VL → V → V → V → V → Prop)  (x : V) (y : VL) (v0 : V) (v1 : V) (v2 : V) (v3 : V) : Prop :=
  Post (-2 : Int32) x y v0 v1 v2 v3
def wp_X0_count_L88  (Post : Int32 → V → VL → V → V → V → V → Prop) (K34 : Int32 → Int32 → Int32 → Int32 → V → VL → V → V → V → V → Prop) (i1 : Int32) (i2 : Int32) (i3 : Int32) (i4 : Int32) (x : V) (y : VL) (v0 : V) (v1 : V) (v2 : V) (v3 : V) : Prop :=
  K34 i1 i2 i3 (i4 + 1) x y v0 v1 v2 v3
def wp_X0_count_S58  (Post : Int32 → V → VL → V → V → V → V → Prop) (K34 : Int32 → Int32 → Int32 → Int32 → V → VL → V → V → V → V → Prop) (K58 : Int32 → Int32 → Int32 → Int32 → Int32 → V → VL → V → V → V → V → Prop) (i1 : Int32) (i2 : Int32) (i3 : Int32) (i4 : Int32) (i5 : Int32) (x : V) (y : VL) (v0 : V) (v1 : V) (v2 : V) (v3 : V) : Prop :=
  ((8 : Int32) ≤ i5 →
    wp_X0_count_L88 Post K34 i1 i2 i3 i4 x y v0 v1 v2 v3
  ) ∧ (¬ (8 : Int32) ≤ i5 →
    vp_in i5 8 ∧
    vp_in i5 8 ∧
    K58 i1 i2 i3 i4 (i5 + 1) (up2 x 4 i5.toNatClampNeg ((x 4 i5.toNatClampNeg) + ((i4 >>> (i5 &&& 31)) &&& (1 : Int32)))) y v0 v1 v2 v3
  )
def wp_X0_count_L58  (Post : Int32 → V → VL → V → V → V → V → Prop) (K34 : Int32 → Int32 → Int32 → Int32 → V → VL → V → V → V → V → Prop) : Nat → Int32 → Int32 → Int32 → Int32 → Int32 → V → VL → V → V → V → V → Prop
  | 0 => fun _ _ _ _ _ _ _ _ _ _ _ => False
  | n + 1 => wp_X0_count_S58  Post K34 (wp_X0_count_L58  Post K34 n)
def wp_X0_count_L151  (Post : Int32 → V → VL → V → V → V → V → Prop) (K105 : Int32 → Int32 → Int32 → Int32 → Int32 → V → VL → V → V → V → V → Prop) (i2 : Int32) (i3 : Int32) (i5 : Int32) (i6 : Int32) (i7 : Int32) (is0 : Int32) (x : V) (y : VL) (v0 : V) (v1 : V) (v2 : V) (v3 : V) : Prop :=
  K105 i2 i3 is0 (if i7 < i5 then i7 else i5) (i6 + 1) x y v0 v1 v2 v3
def wp_X0_count_L184  (Post : Int32 → V → VL → V → V → V → V → Prop)  (is0 : Int32) (x : V) (y : VL) (v0 : V) (v1 : V) (v2 : V) (v3 : V) : Prop :=
  Post is0 x y v0 v1 v2 v3
def wp_X0_count_L177  (Post : Int32 → V → VL → V → V → V → V → Prop)  (i4 : Int32) (x : V) (y : VL) (v0 : V) (v1 : V) (v2 : V) (v3 : V) : Prop :=
  wp_X0_count_L184 Post  i4 x y v0 v1 v2 v3
def wp_X0_count_L168  (Post : Int32 → V → VL → V → V → V → V → Prop)  (i2 : Int32) (i4 : Int32) (i5 : Int32) (x : V) (y : VL) (v0 : V) (v1 : V) (v2 : V) (v3 : V) : Prop :=
  (i4 < 0 →
    wp_X0_count_L177 Post  i4 x y v0 v1 v2 v3
  ) ∧ (¬ i4 < 0 →
    (i2 = 0 →
      wp_X0_count_L177 Post  i4 x y v0 v1 v2 v3
    ) ∧ (¬ i2 = 0 →
      wp_X0_count_L184 Post  i5 x y v0 v1 v2 v3
    )
  )
def wp_X0_count_S105  (Post : Int32 → V → VL → V → V → V → V → Prop)  (K105 : Int32 → Int32 → Int32 → Int32 → Int32 → V → VL → V → V → V → V → Prop) (i2 : Int32) (i3 : Int32) (i4 : Int32) (i5 : Int32) (i6 : Int32) (x : V) (y : VL) (v0 : V) (v1 : V) (v2 : V) (v3 : V) : Prop :=
  ((8 : Int32) ≤ i6 →
    wp_X0_count_L168 Post  i2 i4 i5 x y v0 v1 v2 v3
  ) ∧ (¬ (8 : Int32) ≤ i6 →
    (i3 ≤ 0 →
      wp_X0_count_L168 Post  i2 i4 i5 x y v0 v1 v2 v3
    ) ∧ (¬ i3 ≤ 0 →
      vp_in i6 8 ∧
      vp_in i6 8 ∧
      ∀ n1 : Int32, n1 = (if (x 4 i6.toNatClampNeg) < (i3 - (x 4 i6.toNatClampNeg)) then (i3 - (x 4 i6.toNatClampNeg)) else (x 4 i6.toNatClampNeg)) →
      (i5 ≤ n1 →
        wp_X0_count_L151 Post K105 i2 i3 i5 i6 n1 i4 x y v0 v1 v2 v3
      ) ∧ (¬ i5 ≤ n1 →
        wp_X0_count_L151 Post K105 i2 i3 i5 i6 n1 i6 x y v0 v1 v2 v3
      )
    )
  )
def wp_X0_count_L105  (Post : Int32 → V → VL → V → V → V → V → Prop)  : Nat → Int32 → Int32 → Int32 → Int32 → Int32 → V → VL → V → V → V → V → Prop
  | 0 => fun _ _ _ _ _ _ _ _ _ _ _ => False
  | n + 1 => wp_X0_count_S105  Post  (wp_X0_count_L105  Post  n)
def wp_X0_count_S34  (Post : Int32 → V → VL → V → V → V → V → Prop)  (K34 : Int32 → Int32 → Int32 → Int32 → V → VL → V → V → V → V → Prop) (i1 : Int32) (i2 : Int32) (i3 : Int32) (i4 : Int32) (x : V) (y : VL) (v0 : V) (v1 : V) (v2 : V) (v3 : V) : Prop :=
  ((256 : Int32) ≤ i4 →
    ∃ n, wp_X0_count_L105 Post  n i2 i3 (-6 : Int32) (1000000000 : Int32) (0 : Int32) x y v0 v1 v2 v3
  ) ∧ (¬ (256 : Int32) ≤ i4 →
    wp_X0_canBe i4 i1 x y v0 v1 v2 v3 (fun r1 x_1 y_1 v0_1 v1_1 v2_1 v3_1 =>
    (r1 = 0 →
      wp_X0_count_L88 Post K34 i1 i2 i3 i4 x_1 y_1 v0_1 v1_1 v2_1 v3_1
    ) ∧ (¬ r1 = 0 →
      ∃ n, wp_X0_count_L58 Post K34 n i1 i2 (i3 + 1) i4 (0 : Int32) x_1 y_1 v0_1 v1_1 v2_1 v3_1
    )
    )
  )
def wp_X0_count_L34  (Post : Int32 → V → VL → V → V → V → V → Prop)  : Nat → Int32 → Int32 → Int32 → Int32 → V → VL → V → V → V → V → Prop
  | 0 => fun _ _ _ _ _ _ _ _ _ _ => False
  | n + 1 => wp_X0_count_S34  Post  (wp_X0_count_L34  Post  n)
def wp_X0_count (i1 : Int32) (i2 : Int32) (x : V) (y : VL) (v0 : V) (v1 : V) (v2 : V) (v3 : V) (Post : Int32 → V → VL → V → V → V → V → Prop) : Prop :=
  wp_X0_isIn i1 (0 : Int32) (3 : Int32) (fun r1 =>
  (r1 = 0 →
    wp_X0_count_L18 Post  x y v0 v1 v2 v3
  ) ∧ (¬ r1 = 0 →
    wp_X0_isIn i2 (0 : Int32) (1 : Int32) (fun r2 =>
    (r2 = 0 →
      wp_X0_count_L18 Post  x y v0 v1 v2 v3
    ) ∧ (¬ r2 = 0 →
      wp_J0_fill 8 (0 : Int32) (x 4) (fun f3 =>
      ∃ n, wp_X0_count_L34 Post  n i1 i2 (0 : Int32) (0 : Int32) (upRg x 4 f3) y v0 v1 v2 v3
      )
    )
    )
  )
  )
def wp_X0_year_L30  (Post : Int32 → V → VL → V → V → V → V → Prop)  (x : V) (y : VL) (v0 : V) (v1 : V) (v2 : V) (v3 : V) : Prop :=
  Post (-2 : Int32) x y v0 v1 v2 v3
def wp_X0_year_L287  (Post : Int32 → V → VL → V → V → V → V → Prop) (K51 : Int32 → Int32 → Int64 → Int32 → V → VL → V → V → V → V → Prop) (i2 : Int32) (i3 : Int32) (l4 : Int64) (i6 : Int32) (x : V) (y : VL) (v0 : V) (v1 : V) (v2 : V) (v3 : V) : Prop :=
  K51 i2 i3 l4 (i6 + 1) x y v0 v1 v2 v3
def wp_X0_year_L192  (Post : Int32 → V → VL → V → V → V → V → Prop) (K51 : Int32 → Int32 → Int64 → Int32 → V → VL → V → V → V → V → Prop) (i2 : Int32) (i3 : Int32) (l4 : Int64) (i6 : Int32) (i7 : Int32) (i8 : Int32) (x : V) (y : VL) (v0 : V) (v1 : V) (v2 : V) (v3 : V) : Prop :=
  wp_X1_buy i7 (i8 - i8 / (8 : Int32) * (8 : Int32)) v1 (fun r1 v1_1 =>
  wp_X0_year_L287 Post K51 i2 i3 l4 i6 (up2 x 5 1 r1) y v0 v1_1 v2 v3
  )
def wp_X0_year_L334  (Post : Int32 → V → VL → V → V → V → V → Prop)  (is0 : Int32) (x : V) (y : VL) (v0 : V) (v1 : V) (v2 : V) (v3 : V) : Prop :=
  Post is0 x y v0 v1 v2 v3
def wp_X0_year_S51  (Post : Int32 → V → VL → V → V → V → V → Prop)  (K51 : Int32 → Int32 → Int64 → Int32 → V → VL → V → V → V → V → Prop) (i2 : Int32) (i3 : Int32) (l4 : Int64) (i6 : Int32) (x : V) (y : VL) (v0 : V) (v1 : V) (v2 : V) (v3 : V) : Prop :=
  (i2 ≤ i6 →
    (i3 = 0 →
      wp_X1_notes v1 (fun r4 v1_4 =>
      wp_X0_year_L334 Post  r4 x y v0 v1_4 v2 v3
      )
    ) ∧ (¬ i3 = 0 →
      (i3 = (1 : Int32) →
        wp_X1_rate v1 (fun r3 v1_3 =>
        wp_X0_year_L334 Post  r3 x y v0 v1_3 v2 v3
        )
      ) ∧ (¬ i3 = (1 : Int32) →
        wp_X1_lotsOf (-6 : Int32) v1 (fun r1 v1_1 =>
        wp_J2_bitCount r1 (fun r2 =>
        wp_X0_year_L334 Post  r2 x y v0 v1_1 v2 v3
        )
        )
      )
    )
  ) ∧ (¬ i2 ≤ i6 →
    ∀ n5 : Int64, n5 = ((((75 : Int64) * l4) + (74 : Int64)) - (((75 : Int64) * l4) + (74 : Int64)) / (65537 : Int64) * (65537 : Int64)) →
    ∀ n6 : Int32, n6 = ((1 : Int32) + ((n5 / (48 : Int64)).toInt32 - (n5 / (48 : Int64)).toInt32 / (9 : Int32) * (9 : Int32))) →
    (((n5 / (6 : Int64)) - (n5 / (6 : Int64)) / (8 : Int64) * (8 : Int64)).toInt32 = 0 →
      wp_X1_print ((100 : Int32) * n6) v1 (fun r8 v1_8 =>
      wp_X0_year_L287 Post K51 i2 i3 n5 i6 (up2 x 5 1 r8) y v0 v1_8 v2 v3
      )
    ) ∧ (¬ ((n5 / (6 : Int64)) - (n5 / (6 : Int64)) / (8 : Int64) * (8 : Int64)).toInt32 = 0 → (
    (((n5 / (6 : Int64)) - (n5 / (6 : Int64)) / (8 : Int64) * (8 : Int64)).toInt32 = 1 →
      wp_X1_spend ((n5 - n5 / (6 : Int64) * (6 : Int64)).toInt32) ((100 : Int32) * n6) v1 (fun r9 v1_9 =>
      wp_X0_year_L287 Post K51 i2 i3 n5 i6 (up2 x 5 1 r9) y v0 v1_9 v2 v3
      )
    ) ∧ (¬ ((n5 / (6 : Int64)) - (n5 / (6 : Int64)) / (8 : Int64) * (8 : Int64)).toInt32 = 1 → (
    (((n5 / (6 : Int64)) - (n5 / (6 : Int64)) / (8 : Int64) * (8 : Int64)).toInt32 = 2 →
      wp_X0_year_L192 Post K51 i2 i3 n5 i6 ((n5 - n5 / (6 : Int64) * (6 : Int64)).toInt32) ((n5 / (48 : Int64)).toInt32) x y v0 v1 v2 v3
    ) ∧ (¬ ((n5 / (6 : Int64)) - (n5 / (6 : Int64)) / (8 : Int64) * (8 : Int64)).toInt32 = 2 → (
    (((n5 / (6 : Int64)) - (n5 / (6 : Int64)) / (8 : Int64) * (8 : Int64)).toInt32 = 3 →
      wp_X0_year_L192 Post K51 i2 i3 n5 i6 ((n5 - n5 / (6 : Int64) * (6 : Int64)).toInt32) ((n5 / (48 : Int64)).toInt32) x y v0 v1 v2 v3
    ) ∧ (¬ ((n5 / (6 : Int64)) - (n5 / (6 : Int64)) / (8 : Int64) * (8 : Int64)).toInt32 = 3 → (
    (((n5 / (6 : Int64)) - (n5 / (6 : Int64)) / (8 : Int64) * (8 : Int64)).toInt32 = 4 →
      wp_X1_change ((n5 - n5 / (6 : Int64) * (6 : Int64)).toInt32) ((10 : Int32) * n6) v1 (fun r10 v1_10 =>
      wp_X0_year_L287 Post K51 i2 i3 n5 i6 (up2 x 5 1 r10) y v0 v1_10 v2 v3
      )
    ) ∧ (¬ ((n5 / (6 : Int64)) - (n5 / (6 : Int64)) / (8 : Int64) * (8 : Int64)).toInt32 = 4 → (
    (((n5 / (6 : Int64)) - (n5 / (6 : Int64)) / (8 : Int64) * (8 : Int64)).toInt32 = 5 →
      wp_X1_pay ((n5 - n5 / (6 : Int64) * (6 : Int64)).toInt32) ((n5 / (48 : Int64)).toInt32 - (n5 / (48 : Int64)).toInt32 / (6 : Int32) * (6 : Int32)) v1 (fun r11 v1_11 =>
      wp_X0_year_L287 Post K51 i2 i3 n5 i6 (up2 x 5 1 r11) y v0 v1_11 v2 v3
      )
    ) ∧ (¬ ((n5 / (6 : Int64)) - (n5 / (6 : Int64)) / (8 : Int64) * (8 : Int64)).toInt32 = 5 → (
    (((n5 / (6 : Int64)) - (n5 / (6 : Int64)) / (8 : Int64) * (8 : Int64)).toInt32 = 6 →
      wp_X1_forge ((n5 - n5 / (6 : Int64) * (6 : Int64)).toInt32) ((100 : Int32) * n6) v1 (fun r12 v1_12 =>
      wp_X0_year_L287 Post K51 i2 i3 n5 i6 (up2 x 5 1 r12) y v0 v1_12 v2 v3
      )
    ) ∧ (¬ ((n5 / (6 : Int64)) - (n5 / (6 : Int64)) / (8 : Int64) * (8 : Int64)).toInt32 = 6 → (
      wp_X1_month v1 (fun r13 v1_13 =>
      wp_X0_year_L287 Post K51 i2 i3 n5 i6 (up2 x 5 1 r13) y v0 v1_13 v2 v3
      )
    ))))))))))))))
  )
def wp_X0_year_L51  (Post : Int32 → V → VL → V → V → V → V → Prop)  : Nat → Int32 → Int32 → Int64 → Int32 → V → VL → V → V → V → V → Prop
  | 0 => fun _ _ _ _ _ _ _ _ _ _ => False
  | n + 1 => wp_X0_year_S51  Post  (wp_X0_year_L51  Post  n)
def wp_X0_year (i1 : Int32) (i2 : Int32) (i3 : Int32) (x : V) (y : VL) (v0 : V) (v1 : V) (v2 : V) (v3 : V) (Post : Int32 → V → VL → V → V → V → V → Prop) : Prop :=
  wp_X0_isIn i1 (0 : Int32) (9999 : Int32) (fun r1 =>
  (r1 = 0 →
    wp_X0_year_L30 Post  x y v0 v1 v2 v3
  ) ∧ (¬ r1 = 0 →
    wp_X0_isIn i2 (1 : Int32) (99 : Int32) (fun r2 =>
    (r2 = 0 →
      wp_X0_year_L30 Post  x y v0 v1 v2 v3
    ) ∧ (¬ r2 = 0 →
      wp_X0_isIn i3 (0 : Int32) (2 : Int32) (fun r3 =>
      (r3 = 0 →
        wp_X0_year_L30 Post  x y v0 v1 v2 v3
      ) ∧ (¬ r3 = 0 →
        wp_X1_copy v1 v0 (fun v1_4 =>
        ∃ n, wp_X0_year_L51 Post  n i2 i3 i1.toInt64 (0 : Int32) x y v0 v1_4 v2 v3
        )
      )
      )
    )
    )
  )
  )
def wp_X0_image (i1 : Int32) (x : V) (y : VL) (v0 : V) (v1 : V) (v2 : V) (v3 : V) (Post : Int32 → V → VL → V → V → V → V → Prop) : Prop :=
  wp_X0_isIn i1 (0 : Int32) (1 : Int32) (fun r1 =>
  (r1 = 0 →
    Post (-2 : Int32) x y v0 v1 v2 v3
  ) ∧ (¬ r1 = 0 →
    (i1 = 0 →
      wp_X1_copy v2 v0 (fun v2_3 =>
      (i1 = 0 →
        Post (1 : Int32) x y v0 v1 (up2 v2_3 14 3 (1 : Int32)) v3
      ) ∧ (¬ i1 = 0 → i1 = 1 ∧ (
        Post (1 : Int32) x y v0 v1 v2_3 (up2 v3 14 3 (1 : Int32))
      ))
      )
    ) ∧ (¬ i1 = 0 → i1 = 1 ∧ (
      wp_X1_copy v3 v0 (fun v3_5 =>
      (i1 = 0 →
        Post (1 : Int32) x y v0 v1 (up2 v2 14 3 (1 : Int32)) v3_5
      ) ∧ (¬ i1 = 0 → i1 = 1 ∧ (
        Post (1 : Int32) x y v0 v1 v2 (up2 v3_5 14 3 (1 : Int32))
      ))
      )
    ))
  )
  )
def wp_X0_restore (i1 : Int32) (x : V) (y : VL) (v0 : V) (v1 : V) (v2 : V) (v3 : V) (Post : Int32 → V → VL → V → V → V → V → Prop) : Prop :=
  wp_X0_isIn i1 (0 : Int32) (1 : Int32) (fun r1 =>
  (r1 = 0 →
    Post (-2 : Int32) x y v0 v1 v2 v3
  ) ∧ (¬ r1 = 0 →
    (i1 = 0 →
      ((v2 14 3) = 0 →
        Post (-3 : Int32) x y v0 v1 v2 v3
      ) ∧ (¬ (v2 14 3) = 0 →
        (i1 = 0 →
          wp_X1_copy v0 v2 (fun v0_4 =>
          Post (1 : Int32) x y v0_4 v1 v2 v3
          )
        ) ∧ (¬ i1 = 0 → i1 = 1 ∧ (
          wp_X1_copy v0 v3 (fun v0_5 =>
          Post (1 : Int32) x y v0_5 v1 v2 v3
          )
        ))
      )
    ) ∧ (¬ i1 = 0 → i1 = 1 ∧ (
      ((v3 14 3) = 0 →
        Post (-3 : Int32) x y v0 v1 v2 v3
      ) ∧ (¬ (v3 14 3) = 0 →
        (i1 = 0 →
          wp_X1_copy v0 v2 (fun v0_7 =>
          Post (1 : Int32) x y v0_7 v1 v2 v3
          )
        ) ∧ (¬ i1 = 0 → i1 = 1 ∧ (
          wp_X1_copy v0 v3 (fun v0_8 =>
          Post (1 : Int32) x y v0_8 v1 v2 v3
          )
        ))
      )
    ))
  )
  )
def wp_X0_toldTwo_L40  (Post : Int32 → V → VL → V → V → V → V → Prop)  (is0 : Int32) (x : V) (y : VL) (v0 : V) (v1 : V) (v2 : V) (v3 : V) : Prop :=
  Post is0 x y v0 v1 v2 v3
def wp_X0_toldTwo_L38  (Post : Int32 → V → VL → V → V → V → V → Prop)  (x : V) (y : VL) (v0 : V) (v1 : V) (v2 : V) (v3 : V) : Prop :=
  wp_X0_toldTwo_L40 Post  (-2 : Int32) x y v0 v1 v2 v3
def wp_X0_toldTwo (i1 : Int32) (x : V) (y : VL) (v0 : V) (v1 : V) (v2 : V) (v3 : V) (Post : Int32 → V → VL → V → V → V → V → Prop) : Prop :=
  wp_X0_isOne (i1 / (10 : Int32)) (fun r1 =>
  (r1 = 0 →
    wp_X0_toldTwo_L38 Post  x y v0 v1 v2 v3
  ) ∧ (¬ r1 = 0 →
    wp_X0_isOne (i1 - i1 / (10 : Int32) * (10 : Int32)) (fun r2 =>
    (r2 = 0 →
      wp_X0_toldTwo_L38 Post  x y v0 v1 v2 v3
    ) ∧ (¬ r2 = 0 →
      vp_in (i1 / (10 : Int32)) 6 ∧
      vp_in (i1 - i1 / (10 : Int32) * (10 : Int32)) 6 ∧
      wp_X0_toldTwo_L40 Post  (v0 (2 + (i1 / (10 : Int32)).toNatClampNeg) (i1 - i1 / (10 : Int32) * (10 : Int32)).toNatClampNeg) x y v0 v1 v2 v3
    )
    )
  )
  )
def wp_X0_toldLot_L42  (Post : Int32 → V → VL → V → V → V → V → Prop)  (is0 : Int32) (x : V) (y : VL) (v0 : V) (v1 : V) (v2 : V) (v3 : V) : Prop :=
  Post is0 x y v0 v1 v2 v3
def wp_X0_toldLot_L12  (Post : Int32 → V → VL → V → V → V → V → Prop)  (x : V) (y : VL) (v0 : V) (v1 : V) (v2 : V) (v3 : V) : Prop :=
  wp_X0_toldLot_L42 Post  (-2 : Int32) x y v0 v1 v2 v3
def wp_X0_toldLot (i1 : Int32) (i2 : Int32) (x : V) (y : VL) (v0 : V) (v1 : V) (v2 : V) (v3 : V) (Post : Int32 → V → VL → V → V → V → V → Prop) : Prop :=
  wp_X0_isLot i1 (fun r1 =>
  (r1 = 0 →
    wp_X0_toldLot_L12 Post  x y v0 v1 v2 v3
  ) ∧ (¬ r1 = 0 →
    (i2 ≤ (1 : Int32) →
      (i2 = 0 →
        vp_in i1 8 ∧
        wp_X0_toldLot_L42 Post  (v0 8 i1.toNatClampNeg) x y v0 v1 v2 v3
      ) ∧ (¬ i2 = 0 →
        vp_in i1 8 ∧
        wp_X0_toldLot_L42 Post  (v0 9 i1.toNatClampNeg) x y v0 v1 v2 v3
      )
    ) ∧ (¬ i2 ≤ (1 : Int32) →
      wp_X0_toldLot_L12 Post  x y v0 v1 v2 v3
    )
  )
  )
def wp_X0_toldOne_L12  (Post : Int32 → V → VL → V → V → V → V → Prop)  (x : V) (y : VL) (v0 : V) (v1 : V) (v2 : V) (v3 : V) : Prop :=
  Post (-2 : Int32) x y v0 v1 v2 v3
def wp_X0_toldOne_L56  (Post : Int32 → V → VL → V → V → V → V → Prop)  (is0 : Int32) (x : V) (y : VL) (v0 : V) (v1 : V) (v2 : V) (v3 : V) : Prop :=
  Post is0 x y v0 v1 v2 v3
def wp_X0_toldOne (i1 : Int32) (i2 : Int32) (x : V) (y : VL) (v0 : V) (v1 : V) (v2 : V) (v3 : V) (Post : Int32 → V → VL → V → V → V → V → Prop) : Prop :=
  wp_X0_isOne i1 (fun r1 =>
  (r1 = 0 →
    wp_X0_toldOne_L12 Post  x y v0 v1 v2 v3
  ) ∧ (¬ r1 = 0 →
    (i2 ≤ (2 : Int32) →
      (i2 = 0 →
        vp_in i1 6 ∧
        wp_X0_toldOne_L56 Post  (v0 0 i1.toNatClampNeg) x y v0 v1 v2 v3
      ) ∧ (¬ i2 = 0 →
        (i2 = (1 : Int32) →
          vp_in i1 6 ∧
          wp_X0_toldOne_L56 Post  (v0 1 i1.toNatClampNeg) x y v0 v1 v2 v3
        ) ∧ (¬ i2 = (1 : Int32) →
          wp_X1_lotsOf i1 v0 (fun r2 v0_2 =>
          wp_X0_toldOne_L56 Post  r2 x y v0_2 v1 v2 v3
          )
        )
      )
    ) ∧ (¬ i2 ≤ (2 : Int32) →
      wp_X0_toldOne_L12 Post  x y v0 v1 v2 v3
    )
  )
  )
def wp_X0_told_L63  (Post : Int32 → V → VL → V → V → V → V → Prop)  (is0 : Int32) (x : V) (y : VL) (v0 : V) (v1 : V) (v2 : V) (v3 : V) : Prop :=
  Post is0 x y v0 v1 v2 v3
def wp_X0_told_L117  (Post : Int32 → V → VL → V → V → V → V → Prop)  (i1 : Int32) (x : V) (y : VL) (v0 : V) (v1 : V) (v2 : V) (v3 : V) : Prop :=
  vp_in (i1 - (1 : Int32)) 2 ∧
  Post (v0 10 (i1 - (1 : Int32)).toNatClampNeg) x y v0 v1 v2 v3
def wp_X0_told_L187  (Post : Int32 → V → VL → V → V → V → V → Prop)  (is0 : Int32) (x : V) (y : VL) (v0 : V) (v1 : V) (v2 : V) (v3 : V) : Prop :=
  Post is0 x y v0 v1 v2 v3
def wp_X0_told (i1 : Int32) (x : V) (y : VL) (v0 : V) (v1 : V) (v2 : V) (v3 : V) (Post : Int32 → V → VL → V → V → V → V → Prop) : Prop :=
  (i1 < (10 : Int32) →
    (i1 = 0 →
      Post (x 5 0) x y v0 v1 v2 v3
    ) ∧ (¬ i1 = 0 → (
    (i1 = 1 →
      wp_X0_told_L117 Post  i1 x y v0 v1 v2 v3
    ) ∧ (¬ i1 = 1 → (
    (i1 = 2 →
      wp_X0_told_L117 Post  i1 x y v0 v1 v2 v3
    ) ∧ (¬ i1 = 2 → (
    (i1 = 3 →
      Post (v0 14 0) x y v0 v1 v2 v3
    ) ∧ (¬ i1 = 3 → (
    (i1 = 4 →
      Post (v0 14 1) x y v0 v1 v2 v3
    ) ∧ (¬ i1 = 4 → (
    (i1 = 5 →
      Post (v0 14 2) x y v0 v1 v2 v3
    ) ∧ (¬ i1 = 5 → (
    (i1 = 6 →
      wp_X1_notes v0 (fun r2 v0_2 =>
      Post r2 x y v0_2 v1 v2 v3
      )
    ) ∧ (¬ i1 = 6 → (
    (i1 = 7 →
      wp_X1_land v0 (fun r3 v0_3 =>
      Post r3 x y v0_3 v1 v2 v3
      )
    ) ∧ (¬ i1 = 7 → (
      (i1 = (8 : Int32) →
        wp_X1_rate v0 (fun r4 v0_4 =>
        wp_X0_told_L187 Post  r4 x y v0_4 v1 v2 v3
        )
      ) ∧ (¬ i1 = (8 : Int32) →
        wp_X0_told_L187 Post  (-2 : Int32) x y v0 v1 v2 v3
      )
    ))))))))))))))))
  ) ∧ (¬ i1 < (10 : Int32) →
    (i1 < (200 : Int32) →
      (i1 < (100 : Int32) →
        wp_X0_toldOne ((i1 / (10 : Int32)) - (1 : Int32)) (i1 - i1 / (10 : Int32) * (10 : Int32)) x y v0 v1 v2 v3 (fun r5 x_5 y_5 v0_5 v1_5 v2_5 v3_5 =>
        wp_X0_told_L63 Post  r5 x_5 y_5 v0_5 v1_5 v2_5 v3_5
        )
      ) ∧ (¬ i1 < (100 : Int32) →
        wp_X0_toldLot ((i1 - (100 : Int32)) / (10 : Int32)) (i1 - i1 / (10 : Int32) * (10 : Int32)) x y v0 v1 v2 v3 (fun r6 x_6 y_6 v0_6 v1_6 v2_6 v3_6 =>
        wp_X0_told_L63 Post  r6 x_6 y_6 v0_6 v1_6 v2_6 v3_6
        )
      )
    ) ∧ (¬ i1 < (200 : Int32) →
      wp_X0_toldTwo (i1 - (200 : Int32)) x y v0 v1 v2 v3 (fun r7 x_7 y_7 v0_7 v1_7 v2_7 v3_7 =>
      wp_X0_told_L63 Post  r7 x_7 y_7 v0_7 v1_7 v2_7 v3_7
      )
    )
  )
def wp_X2_in_L18  (Post : Int32 → Prop)  (is0 : Int32) : Prop :=
  narrow .boolean (.int is0) = .int is0 ∧
  Post is0
def wp_X2_in_L17  (Post : Int32 → Prop)   : Prop :=
  wp_X2_in_L18 Post  (0 : Int32)
def wp_X2_in (l0 : Int64) (l2 : Int64) (l4 : Int64) (Post : Int32 → Prop) : Prop :=
  ((lg_cmp l0 l2) < 0 →
    wp_X2_in_L17 Post  
  ) ∧ (¬ (lg_cmp l0 l2) < 0 →
    (0 < (lg_cmp l0 l4) →
      wp_X2_in_L17 Post  
    ) ∧ (¬ 0 < (lg_cmp l0 l4) →
      wp_X2_in_L18 Post  (1 : Int32)
    )
  )
def wp_X2_isOne (i0 : Int32) (Post : Int32 → Prop) : Prop :=
  wp_X2_in i0.toInt64 (0 : Int64) (5 : Int64) (fun r1 =>
  narrow .boolean (.int r1) = .int r1 ∧
  Post r1
  )
def wp_X2_one_L33  (Post : Int32 → V → VL → Prop)  (z : V) (g : VL) : Prop :=
  Post (-2 : Int32) z g
def wp_X2_one (i1 : Int32) (i2 : Int32) (i3 : Int32) (z : V) (g : VL) (Post : Int32 → V → VL → Prop) : Prop :=
  wp_X2_isOne i1 (fun r1 =>
  (r1 = 0 →
    Post (-1 : Int32) z g
  ) ∧ (¬ r1 = 0 →
    wp_X2_in i2.toInt64 (0 : Int64) (9999 : Int64) (fun r2 =>
    (r2 = 0 →
      wp_X2_one_L33 Post  z g
    ) ∧ (¬ r2 = 0 →
      wp_X2_in i3.toInt64 (0 : Int64) (9999 : Int64) (fun r3 =>
      (r3 = 0 →
        wp_X2_one_L33 Post  z g
      ) ∧ (¬ r3 = 0 →
        vp_in i1 6 ∧
        vp_in i1 6 ∧
        vp_in i1 6 ∧
        vp_in i1 6 ∧
        Post (((10000 : Int32) * (z 0 i1.toNatClampNeg)) + (z 1 i1.toNatClampNeg)) (up2 (up2 z 0 i1.toNatClampNeg i2) 1 i1.toNatClampNeg i3) g
      )
      )
    )
    )
  )
  )
def wp_X2_owe_L19  (Post : Int32 → V → VL → Prop)  (z : V) (g : VL) : Prop :=
  Post (-1 : Int32) z g
def wp_X2_owe (i1 : Int32) (i2 : Int32) (i3 : Int32) (z : V) (g : VL) (Post : Int32 → V → VL → Prop) : Prop :=
  wp_X2_isOne i1 (fun r1 =>
  (r1 = 0 →
    wp_X2_owe_L19 Post  z g
  ) ∧ (¬ r1 = 0 →
    wp_X2_isOne i2 (fun r2 =>
    (r2 = 0 →
      wp_X2_owe_L19 Post  z g
    ) ∧ (¬ r2 = 0 →
      (i1 = i2 →
        wp_X2_owe_L19 Post  z g
      ) ∧ (¬ i1 = i2 →
        wp_X2_in i3.toInt64 (0 : Int64) (999 : Int64) (fun r3 =>
        (r3 = 0 →
          Post (-2 : Int32) z g
        ) ∧ (¬ r3 = 0 →
          vp_in (((6 : Int32) * i1) + i2) 36 ∧
          vp_in (((6 : Int32) * i1) + i2) 36 ∧
          Post (z 2 (((6 : Int32) * i1) + i2).toNatClampNeg) (up2 z 2 (((6 : Int32) * i1) + i2).toNatClampNeg i3) g
        )
        )
      )
    )
    )
  )
  )
def wp_X2_lot_L26  (Post : Int32 → V → VL → Prop)  (z : V) (g : VL) : Prop :=
  Post (-1 : Int32) z g
def wp_X2_lot_L73  (Post : Int32 → V → VL → Prop)  (i4 : Int32) (is0 : Int32) (is1 : Int32) (z : V) (g : VL) : Prop :=
  vp_in is1 8 ∧
  Post i4 (up2 z 4 is1.toNatClampNeg is0) g
def wp_X2_lot (i1 : Int32) (i2 : Int32) (i3 : Int32) (z : V) (g : VL) (Post : Int32 → V → VL → Prop) : Prop :=
  wp_X2_in i1.toInt64 (0 : Int64) (7 : Int64) (fun r1 =>
  (r1 = 0 →
    wp_X2_lot_L26 Post  z g
  ) ∧ (¬ r1 = 0 →
    wp_X2_in i3.toInt64 (-1 : Int64) (5 : Int64) (fun r2 =>
    (r2 = 0 →
      wp_X2_lot_L26 Post  z g
    ) ∧ (¬ r2 = 0 →
      wp_X2_in i2.toInt64 (1 : Int64) (999 : Int64) (fun r3 =>
      (r3 = 0 →
        Post (-2 : Int32) z g
      ) ∧ (¬ r3 = 0 →
        vp_in i1 8 ∧
        vp_in i1 8 ∧
        (0 ≤ i3 →
          wp_X2_lot_L73 Post  (z 3 i1.toNatClampNeg) i3 i1 (up2 z 3 i1.toNatClampNeg i2) g
        ) ∧ (¬ 0 ≤ i3 →
          wp_X2_lot_L73 Post  (z 3 i1.toNatClampNeg) (-6 : Int32) i1 (up2 z 3 i1.toNatClampNeg i2) g
        )
      )
      )
    )
    )
  )
  )
def wp_X2_set_L22  (Post : Int32 → V → VL → Prop)  (z : V) (g : VL) : Prop :=
  Post (-2 : Int32) z g
def wp_X2_set_L71  (Post : Int32 → V → VL → Prop)  (i3 : Int32) (is0 : Int32) (z : V) (g : VL) : Prop :=
  Post i3 (up2 z 19 1 is0) g
def wp_X2_set_L54  (Post : Int32 → V → VL → Prop)  (i1 : Int32) (i2 : Int32) (i3 : Int32) (is0 : Int32) (z : V) (g : VL) : Prop :=
  (i1 = (1 : Int32) →
    wp_X2_set_L71 Post  i3 i2 (up2 z 19 0 is0) g
  ) ∧ (¬ i1 = (1 : Int32) →
    wp_X2_set_L71 Post  i3 (z 19 1) (up2 z 19 0 is0) g
  )
def wp_X2_set_L40  (Post : Int32 → V → VL → Prop)  (i1 : Int32) (i2 : Int32) (is0 : Int32) (z : V) (g : VL) : Prop :=
  (i1 = 0 →
    wp_X2_set_L54 Post  i1 i2 is0 i2 z g
  ) ∧ (¬ i1 = 0 →
    wp_X2_set_L54 Post  i1 i2 is0 (z 19 0) z g
  )
def wp_X2_set (i1 : Int32) (i2 : Int32) (z : V) (g : VL) (Post : Int32 → V → VL → Prop) : Prop :=
  wp_X2_in i1.toInt64 (0 : Int64) (1 : Int64) (fun r1 =>
  (r1 = 0 →
    wp_X2_set_L22 Post  z g
  ) ∧ (¬ r1 = 0 →
    wp_X2_in i2.toInt64 (0 : Int64) (99999 : Int64) (fun r2 =>
    (r2 = 0 →
      wp_X2_set_L22 Post  z g
    ) ∧ (¬ r2 = 0 →
      (i1 = 0 →
        wp_X2_set_L40 Post  i1 i2 (z 19 0) z g
      ) ∧ (¬ i1 = 0 →
        wp_X2_set_L40 Post  i1 i2 (z 19 1) z g
      )
    )
    )
  )
  )
def wp_X2_say (i1 : Int32) (z : V) (g : VL) (Post : Int32 → V → VL → Prop) : Prop :=
  wp_X2_in i1.toInt64 (33 : Int64) (126 : Int64) (fun r1 =>
  (r1 = 0 →
    Post (-2 : Int32) z g
  ) ∧ (¬ r1 = 0 →
    ((z 19 5) = (60 : Int32) →
      Post (-4 : Int32) z g
    ) ∧ (¬ (z 19 5) = (60 : Int32) →
      vp_in (z 19 5) 60 ∧
      Post ((z 19 5) + (1 : Int32)) (up2 (up2 z 8 (z 19 5).toNatClampNeg i1) 19 5 ((z 19 5) + (1 : Int32))) g
    )
  )
  )
def wp_X2_wipe (z : V) (g : VL) (Post : Int32 → V → VL → Prop) : Prop :=
  Post (z 19 5) (up2 z 19 5 (0 : Int32)) g
def wp_X2_isLetter (i0 : Int32) (Post : Int32 → Prop) : Prop :=
  wp_X2_in i0.toInt64 (65 : Int64) (70 : Int64) (fun r1 =>
  narrow .boolean (.int r1) = .int r1 ∧
  Post r1
  )
def wp_X2_close (i1 : Int32) (i2 : Int32) (z : V) (g : VL) (Post : Int32 → V → VL → Prop) : Prop :=
  vp_in (z 19 6) 60 ∧
  vp_in (z 19 6) 60 ∧
  Post (0 : Int32) (up2 (up2 (up2 z 9 (z 19 6).toNatClampNeg i1) 11 (z 19 6).toNatClampNeg i2) 19 6 ((z 19 6) + (1 : Int32))) g
def wp_X2_begin_L85  (Post : Int32 → V → VL → Prop)  (is0 : Int32) (z : V) (g : VL) : Prop :=
  Post is0 z g
def wp_X2_begin_L23  (Post : Int32 → V → VL → Prop)  (i1 : Int32) (is0 : Int32) (is1 : Int32) (z : V) (g : VL) : Prop :=
  vp_in is1 60 ∧
  (i1 = 33 →
    Post (3 : Int32) (up2 z 10 is1.toNatClampNeg is0) g
  ) ∧ (¬ i1 = 33 → (
  (i1 = 43 →
    Post (2 : Int32) (up2 z 10 is1.toNatClampNeg is0) g
  ) ∧ (¬ i1 = 43 → (
  (i1 = 46 →
    wp_X2_close (6 : Int32) (0 : Int32) (up2 z 10 is1.toNatClampNeg is0) g (fun r2 z_2 g_2 =>
    Post r2 z_2 g_2
    )
  ) ∧ (¬ i1 = 46 → (
    wp_X2_isLetter i1 (fun r3 =>
    (r3 = 0 →
      wp_X2_begin_L85 Post  (-6 : Int32) (up2 z 10 is1.toNatClampNeg is0) g
    ) ∧ (¬ r3 = 0 →
      wp_X2_begin_L85 Post  (1 : Int32) (up2 z 10 is1.toNatClampNeg is0) g
    )
    )
  ))))))
def wp_X2_begin (i1 : Int32) (z : V) (g : VL) (Post : Int32 → V → VL → Prop) : Prop :=
  wp_X2_isLetter i1 (fun r1 =>
  (r1 = 0 →
    wp_X2_begin_L23 Post  i1 (0 : Int32) (z 19 6) z g
  ) ∧ (¬ r1 = 0 →
    wp_X2_begin_L23 Post  i1 (i1 - (65 : Int32)) (z 19 6) z g
  )
  )
def wp_X2_deed (i0 : Int32) (Post : Int32 → Prop) : Prop :=
  (i0 = 36 →
    Post (5 : Int32)
  ) ∧ (¬ i0 = 36 → (
  (i0 = 47 →
    Post (6 : Int32)
  ) ∧ (¬ i0 = 47 → (
  (i0 = 62 →
    Post (7 : Int32)
  ) ∧ (¬ i0 = 62 → (
  (i0 = 64 →
    Post (8 : Int32)
  ) ∧ (¬ i0 = 64 → (
    Post (-6 : Int32)
  ))))))))
def wp_X2_number_L30  (Post : Int32 → V → VL → Prop)  (is0 : Int32) (z : V) (g : VL) : Prop :=
  Post is0 z g
def wp_X2_number (i1 : Int32) (i2 : Int32) (i3 : Int32) (z : V) (g : VL) (Post : Int32 → V → VL → Prop) : Prop :=
  wp_X2_in i2.toInt64 (49 : Int64) (57 : Int64) (fun r1 =>
  (r1 = 0 →
    wp_X2_number_L30 Post  (-6 : Int32) z g
  ) ∧ (¬ r1 = 0 →
    wp_X2_close i1 (i3 * (i2 - (48 : Int32))) z g (fun r2 z_2 g_2 =>
    wp_X2_number_L30 Post  r2 z_2 g_2
    )
  )
  )
def wp_X2_forWhom_L26  (Post : Int32 → V → VL → Prop)  (is0 : Int32) (z : V) (g : VL) : Prop :=
  Post is0 z g
def wp_X2_forWhom (i1 : Int32) (z : V) (g : VL) (Post : Int32 → V → VL → Prop) : Prop :=
  vp_in (z 19 6) 60 ∧
  wp_X2_isLetter i1 (fun r1 =>
  (r1 = 0 →
    wp_X2_forWhom_L26 Post  (-6 : Int32) (up2 z 10 (z 19 6).toNatClampNeg (i1 - (65 : Int32))) g
  ) ∧ (¬ r1 = 0 →
    wp_X2_forWhom_L26 Post  (4 : Int32) (up2 z 10 (z 19 6).toNatClampNeg (i1 - (65 : Int32))) g
  )
  )
def wp_X2_readOn_L111  (Post : Int32 → V → VL → Prop)  (is0 : Int32) (z : V) (g : VL) : Prop :=
  Post is0 z g
def wp_X2_readOn_L142  (Post : Int32 → V → VL → Prop)  (is0 : Int32) (z : V) (g : VL) : Prop :=
  Post is0 z g
def wp_X2_readOn (i1 : Int32) (i2 : Int32) (z : V) (g : VL) (Post : Int32 → V → VL → Prop) : Prop :=
  (i1 = 0 →
    wp_X2_begin i2 z g (fun r2 z_2 g_2 =>
    Post r2 z_2 g_2
    )
  ) ∧ (¬ i1 = 0 → (
  (i1 = 1 →
    wp_X2_deed i2 (fun r3 =>
    Post r3 z g
    )
  ) ∧ (¬ i1 = 1 → (
  (i1 = 2 →
    wp_X2_number (0 : Int32) i2 (100 : Int32) z g (fun r4 z_4 g_4 =>
    Post r4 z_4 g_4
    )
  ) ∧ (¬ i1 = 2 → (
  (i1 = 3 →
    wp_X2_forWhom i2 z g (fun r5 z_5 g_5 =>
    Post r5 z_5 g_5
    )
  ) ∧ (¬ i1 = 3 → (
  (i1 = 4 →
    wp_X2_number (1 : Int32) i2 (100 : Int32) z g (fun r6 z_6 g_6 =>
    Post r6 z_6 g_6
    )
  ) ∧ (¬ i1 = 4 → (
  (i1 = 5 →
    wp_X2_in i2.toInt64 (48 : Int64) (55 : Int64) (fun r7 =>
    (r7 = 0 →
      wp_X2_readOn_L111 Post  (-6 : Int32) z g
    ) ∧ (¬ r7 = 0 →
      wp_X2_close (2 : Int32) (i2 - (48 : Int32)) z g (fun r8 z_8 g_8 =>
      wp_X2_readOn_L111 Post  r8 z_8 g_8
      )
    )
    )
  ) ∧ (¬ i1 = 5 → (
  (i1 = 6 →
    wp_X2_number (3 : Int32) i2 (10 : Int32) z g (fun r9 z_9 g_9 =>
    Post r9 z_9 g_9
    )
  ) ∧ (¬ i1 = 6 → (
  (i1 = 7 →
    wp_X2_isLetter i2 (fun r10 =>
    (r10 = 0 →
      wp_X2_readOn_L142 Post  (-6 : Int32) z g
    ) ∧ (¬ r10 = 0 →
      wp_X2_close (4 : Int32) (i2 - (65 : Int32)) z g (fun r11 z_11 g_11 =>
      wp_X2_readOn_L142 Post  r11 z_11 g_11
      )
    )
    )
  ) ∧ (¬ i1 = 7 → (
    wp_X2_number (5 : Int32) i2 (100 : Int32) z g (fun r12 z_12 g_12 =>
    Post r12 z_12 g_12
    )
  ))))))))))))))))
def wp_X2_fault_L54  (Post : Int32 → V → VL → Prop)  (is0 : Int32) (z : V) (g : VL) : Prop :=
  Post is0 z g
def wp_X2_fault_S9  (Post : Int32 → V → VL → Prop)  (K9 : Int32 → Int32 → V → VL → Prop) (i1 : Int32) (i2 : Int32) (z : V) (g : VL) : Prop :=
  ((z 19 5) ≤ i2 →
    (i1 = 0 →
      wp_X2_fault_L54 Post  (-6 : Int32) z g
    ) ∧ (¬ i1 = 0 →
      wp_X2_fault_L54 Post  (z 19 5) z g
    )
  ) ∧ (¬ (z 19 5) ≤ i2 →
    vp_in i2 60 ∧
    wp_X2_readOn i1 (z 8 i2.toNatClampNeg) z g (fun r1 z_1 g_1 =>
    (0 ≤ r1 →
      K9 r1 (i2 + 1) z_1 g_1
    ) ∧ (¬ 0 ≤ r1 →
      Post i2 z_1 g_1
    )
    )
  )
def wp_X2_fault_L9  (Post : Int32 → V → VL → Prop)  : Nat → Int32 → Int32 → V → VL → Prop
  | 0 => fun _ _ _ _ => False
  | n + 1 => wp_X2_fault_S9  Post  (wp_X2_fault_L9  Post  n)
def wp_X2_fault (z : V) (g : VL) (Post : Int32 → V → VL → Prop) : Prop :=
  ∃ n, wp_X2_fault_L9 Post  n (0 : Int32) (0 : Int32) (up2 z 19 6 (0 : Int32)) g
def wp_X2_keepNow_S72  (Post : V → VL → Prop)  (K72 : Int32 → V → VL → Prop) (i1 : Int32) (z : V) (g : VL) : Prop :=
  ((8 : Int32) ≤ i1 →
    Post (up2 (up2 (up2 (up2 z 12 (56 : Int32).toNatClampNeg (z 19 0)) 12 (57 : Int32).toNatClampNeg (z 19 1)) 12 (58 : Int32).toNatClampNeg (z 19 2)) 12 (59 : Int32).toNatClampNeg (z 19 3)) g
  ) ∧ (¬ (8 : Int32) ≤ i1 →
    vp_in i1 8 ∧
    vp_in ((48 : Int32) + i1) 60 ∧
    K72 (i1 + 1) (up2 z 12 ((48 : Int32) + i1).toNatClampNeg (z 4 i1.toNatClampNeg)) g
  )
def wp_X2_keepNow_L72  (Post : V → VL → Prop)  : Nat → Int32 → V → VL → Prop
  | 0 => fun _ _ _ => False
  | n + 1 => wp_X2_keepNow_S72  Post  (wp_X2_keepNow_L72  Post  n)
def wp_X2_keepNow_S43  (Post : V → VL → Prop)  (K43 : Int32 → V → VL → Prop) (i1 : Int32) (z : V) (g : VL) : Prop :=
  ((36 : Int32) ≤ i1 →
    ∃ n, wp_X2_keepNow_L72 Post  n (0 : Int32) z g
  ) ∧ (¬ (36 : Int32) ≤ i1 →
    vp_in i1 36 ∧
    vp_in ((12 : Int32) + i1) 60 ∧
    K43 (i1 + 1) (up2 z 12 ((12 : Int32) + i1).toNatClampNeg (z 2 i1.toNatClampNeg)) g
  )
def wp_X2_keepNow_L43  (Post : V → VL → Prop)  : Nat → Int32 → V → VL → Prop
  | 0 => fun _ _ _ => False
  | n + 1 => wp_X2_keepNow_S43  Post  (wp_X2_keepNow_L43  Post  n)
def wp_X2_keepNow_S2  (Post : V → VL → Prop)  (K2 : Int32 → V → VL → Prop) (i1 : Int32) (z : V) (g : VL) : Prop :=
  ((6 : Int32) ≤ i1 →
    ∃ n, wp_X2_keepNow_L43 Post  n (0 : Int32) z g
  ) ∧ (¬ (6 : Int32) ≤ i1 →
    vp_in i1 6 ∧
    vp_in i1 60 ∧
    vp_in i1 6 ∧
    vp_in ((6 : Int32) + i1) 60 ∧
    K2 (i1 + 1) (up2 (up2 z 12 i1.toNatClampNeg (z 0 i1.toNatClampNeg)) 12 ((6 : Int32) + i1).toNatClampNeg (z 1 i1.toNatClampNeg)) g
  )
def wp_X2_keepNow_L2  (Post : V → VL → Prop)  : Nat → Int32 → V → VL → Prop
  | 0 => fun _ _ _ => False
  | n + 1 => wp_X2_keepNow_S2  Post  (wp_X2_keepNow_L2  Post  n)
def wp_X2_keepNow (z : V) (g : VL) (Post : V → VL → Prop) : Prop :=
  ∃ n, wp_X2_keepNow_L2 Post  n (0 : Int32) z g
def wp_X2_land_L30  (Post : Int32 → V → VL → Prop) (K4 : Int32 → Int32 → V → VL → Prop) (i2 : Int32) (is0 : Int32) (is1 : Int32) (z : V) (g : VL) : Prop :=
  K4 (is1 + is0) (i2 + 1) z g
def wp_X2_land_S4  (Post : Int32 → V → VL → Prop)  (K4 : Int32 → Int32 → V → VL → Prop) (i1 : Int32) (i2 : Int32) (z : V) (g : VL) : Prop :=
  ((8 : Int32) ≤ i2 →
    Post i1 z g
  ) ∧ (¬ (8 : Int32) ≤ i2 →
    vp_in i2 8 ∧
    (0 ≤ (z 4 i2.toNatClampNeg) →
      wp_X2_land_L30 Post K4 i2 (0 : Int32) i1 z g
    ) ∧ (¬ 0 ≤ (z 4 i2.toNatClampNeg) →
      vp_in i2 8 ∧
      wp_X2_land_L30 Post K4 i2 (z 3 i2.toNatClampNeg) i1 z g
    )
  )
def wp_X2_land_L4  (Post : Int32 → V → VL → Prop)  : Nat → Int32 → Int32 → V → VL → Prop
  | 0 => fun _ _ _ _ => False
  | n + 1 => wp_X2_land_S4  Post  (wp_X2_land_L4  Post  n)
def wp_X2_land (z : V) (g : VL) (Post : Int32 → V → VL → Prop) : Prop :=
  ∃ n, wp_X2_land_L4 Post  n (0 : Int32) (0 : Int32) z g
def wp_X2_notes_S7  (Post : Int32 → V → VL → Prop)  (K7 : Int32 → Int32 → V → VL → Prop) (i1 : Int32) (i2 : Int32) (z : V) (g : VL) : Prop :=
  ((6 : Int32) ≤ i2 →
    Post i1 z g
  ) ∧ (¬ (6 : Int32) ≤ i2 →
    vp_in i2 6 ∧
    K7 (i1 + (z 0 i2.toNatClampNeg)) (i2 + 1) z g
  )
def wp_X2_notes_L7  (Post : Int32 → V → VL → Prop)  : Nat → Int32 → Int32 → V → VL → Prop
  | 0 => fun _ _ _ _ => False
  | n + 1 => wp_X2_notes_S7  Post  (wp_X2_notes_L7  Post  n)
def wp_X2_notes (z : V) (g : VL) (Post : Int32 → V → VL → Prop) : Prop :=
  ∃ n, wp_X2_notes_L7 Post  n (z 19 0) (0 : Int32) z g
def wp_X2_rateOf_L36  (Post : Int32 → Prop)  (is0 : Int32) : Prop :=
  Post is0
def wp_X2_rateOf_L20  (Post : Int32 → Prop)  (ls0 : Int64) : Prop :=
  ((lg_cmp ls0 (100 : Int64)) ≤ 0 →
    wp_X2_rateOf_L36 Post  ls0.toInt32
  ) ∧ (¬ (lg_cmp ls0 (100 : Int64)) ≤ 0 →
    wp_X2_rateOf_L36 Post  (100 : Int32)
  )
def wp_X2_rateOf (i0 : Int32) (l1 : Int64) (Post : Int32 → Prop) : Prop :=
  ((lg_cmp l1 (0 : Int64)) = 0 →
    wp_X2_rateOf_L20 Post  (100 : Int64)
  ) ∧ (¬ (lg_cmp l1 (0 : Int64)) = 0 →
    ¬ l1 = 0 ∧
    wp_X2_rateOf_L20 Post  (((100 : Int64) * i0.toInt64) / l1)
  )
def wp_X2_rate (z : V) (g : VL) (Post : Int32 → V → VL → Prop) : Prop :=
  wp_X2_land z g (fun r1 z_1 g_1 =>
  wp_X2_notes z_1 g_1 (fun r2 z_2 g_2 =>
  wp_X2_rateOf r1 r2.toInt64 (fun r3 =>
  Post r3 z_2 g_2
  )
  )
  )
def wp_X2_worth (i1 : Int32) (z : V) (g : VL) (Post : Int32 → V → VL → Prop) : Prop :=
  wp_X2_rate z g (fun r1 z_1 g_1 =>
  Post ((i1 * r1) / (100 : Int32)) z_1 g_1
  )
def wp_X2_whyNotChange_L46  (Post : Int32 → V → VL → Prop)  (is0 : Int32) (z : V) (g : VL) : Prop :=
  Post is0 z g
def wp_X2_whyNotChange_L41  (Post : Int32 → V → VL → Prop)  (z : V) (g : VL) : Prop :=
  wp_X2_whyNotChange_L46 Post  (5 : Int32) z g
def wp_X2_whyNotChange (i1 : Int32) (i2 : Int32) (z : V) (g : VL) (Post : Int32 → V → VL → Prop) : Prop :=
  vp_in i1 6 ∧
  (i2 ≤ (z 0 i1.toNatClampNeg) →
    vp_in i1 6 ∧
    wp_X2_worth i2 z g (fun r1 z_1 g_1 =>
    ((9999 : Int32) < ((z 1 i1.toNatClampNeg) + r1) →
      wp_X2_whyNotChange_L41 Post  z_1 g_1
    ) ∧ (¬ (9999 : Int32) < ((z 1 i1.toNatClampNeg) + r1) →
      (((z_1 19 0) + i2) ≤ (99999 : Int32) →
        wp_X2_whyNotChange_L46 Post  (0 : Int32) z_1 g_1
      ) ∧ (¬ ((z_1 19 0) + i2) ≤ (99999 : Int32) →
        wp_X2_whyNotChange_L41 Post  z_1 g_1
      )
    )
    )
  ) ∧ (¬ i2 ≤ (z 0 i1.toNatClampNeg) →
    Post (3 : Int32) z g
  )
def wp_X2_payment_L32  (Post : Int32 → V → VL → Prop)  (is0 : Int32) (z : V) (g : VL) : Prop :=
  Post is0 z g
def wp_X2_payment (i1 : Int32) (i2 : Int32) (z : V) (g : VL) (Post : Int32 → V → VL → Prop) : Prop :=
  vp_in (((6 : Int32) * i1) + i2) 36 ∧
  vp_in i1 6 ∧
  ((z 0 i1.toNatClampNeg) ≤ (z 2 (((6 : Int32) * i1) + i2).toNatClampNeg) →
    vp_in i1 6 ∧
    wp_X2_payment_L32 Post  (z 0 i1.toNatClampNeg) z g
  ) ∧ (¬ (z 0 i1.toNatClampNeg) ≤ (z 2 (((6 : Int32) * i1) + i2).toNatClampNeg) →
    wp_X2_payment_L32 Post  (z 2 (((6 : Int32) * i1) + i2).toNatClampNeg) z g
  )
def wp_X2_whyNotPay_L41  (Post : Int32 → V → VL → Prop)  (is0 : Int32) (z : V) (g : VL) : Prop :=
  Post is0 z g
def wp_X2_whyNotPay (i1 : Int32) (i2 : Int32) (z : V) (g : VL) (Post : Int32 → V → VL → Prop) : Prop :=
  (i1 = i2 →
    Post (1 : Int32) z g
  ) ∧ (¬ i1 = i2 →
    wp_X2_payment i1 i2 z g (fun r1 z_1 g_1 =>
    (r1 = 0 →
      wp_X2_whyNotPay_L41 Post  (4 : Int32) z_1 g_1
    ) ∧ (¬ r1 = 0 →
      vp_in i2 6 ∧
      (((z_1 0 i2.toNatClampNeg) + r1) ≤ (9999 : Int32) →
        wp_X2_whyNotPay_L41 Post  (0 : Int32) z_1 g_1
      ) ∧ (¬ ((z_1 0 i2.toNatClampNeg) + r1) ≤ (9999 : Int32) →
        wp_X2_whyNotPay_L41 Post  (5 : Int32) z_1 g_1
      )
    )
    )
  )
def wp_X2_whyNot_L56  (Post : Int32 → V → VL → Prop)  (is0 : Int32) (z : V) (g : VL) : Prop :=
  Post is0 z g
def wp_X2_whyNot_L87  (Post : Int32 → V → VL → Prop)  (is0 : Int32) (z : V) (g : VL) : Prop :=
  Post is0 z g
def wp_X2_whyNot_L82  (Post : Int32 → V → VL → Prop)  (z : V) (g : VL) : Prop :=
  wp_X2_whyNot_L87 Post  (5 : Int32) z g
def wp_X2_whyNot_L121  (Post : Int32 → V → VL → Prop)  (is0 : Int32) (z : V) (g : VL) : Prop :=
  Post is0 z g
def wp_X2_whyNot_L167  (Post : Int32 → V → VL → Prop)  (is0 : Int32) (z : V) (g : VL) : Prop :=
  Post is0 z g
def wp_X2_whyNot_L183  (Post : Int32 → V → VL → Prop)  (is0 : Int32) (z : V) (g : VL) : Prop :=
  Post is0 z g
def wp_X2_whyNot (i1 : Int32) (i2 : Int32) (i3 : Int32) (z : V) (g : VL) (Post : Int32 → V → VL → Prop) : Prop :=
  (i1 = 0 →
    (((z 19 0) + i3) ≤ (99999 : Int32) →
      wp_X2_whyNot_L56 Post  (0 : Int32) z g
    ) ∧ (¬ ((z 19 0) + i3) ≤ (99999 : Int32) →
      wp_X2_whyNot_L56 Post  (5 : Int32) z g
    )
  ) ∧ (¬ i1 = 0 → (
  (i1 = 1 →
    vp_in i2 6 ∧
    ((9999 : Int32) < ((z 0 i2.toNatClampNeg) + i3) →
      wp_X2_whyNot_L82 Post  z g
    ) ∧ (¬ (9999 : Int32) < ((z 0 i2.toNatClampNeg) + i3) →
      (((z 19 1) + i3) ≤ (99999 : Int32) →
        wp_X2_whyNot_L87 Post  (0 : Int32) z g
      ) ∧ (¬ ((z 19 1) + i3) ≤ (99999 : Int32) →
        wp_X2_whyNot_L82 Post  z g
      )
    )
  ) ∧ (¬ i1 = 1 → (
  (i1 = 2 →
    vp_in i3 8 ∧
    ((z 4 i3.toNatClampNeg) < 0 →
      vp_in i2 6 ∧
      vp_in i3 8 ∧
      ((z 3 i3.toNatClampNeg) ≤ (z 0 i2.toNatClampNeg) →
        wp_X2_whyNot_L121 Post  (0 : Int32) z g
      ) ∧ (¬ (z 3 i3.toNatClampNeg) ≤ (z 0 i2.toNatClampNeg) →
        wp_X2_whyNot_L121 Post  (3 : Int32) z g
      )
    ) ∧ (¬ (z 4 i3.toNatClampNeg) < 0 →
      wp_X2_whyNot_L121 Post  (2 : Int32) z g
    )
  ) ∧ (¬ i1 = 2 → (
  (i1 = 3 →
    wp_X2_whyNotChange i2 i3 z g (fun r2 z_2 g_2 =>
    Post r2 z_2 g_2
    )
  ) ∧ (¬ i1 = 3 → (
  (i1 = 4 →
    wp_X2_whyNotPay i2 i3 z g (fun r3 z_3 g_3 =>
    Post r3 z_3 g_3
    )
  ) ∧ (¬ i1 = 4 → (
  (i1 = 5 →
    (i3 ≤ (z 19 0) →
      vp_in i2 6 ∧
      (((z 0 i2.toNatClampNeg) + i3) ≤ (9999 : Int32) →
        wp_X2_whyNot_L167 Post  (0 : Int32) z g
      ) ∧ (¬ ((z 0 i2.toNatClampNeg) + i3) ≤ (9999 : Int32) →
        wp_X2_whyNot_L167 Post  (5 : Int32) z g
      )
    ) ∧ (¬ i3 ≤ (z 19 0) →
      wp_X2_whyNot_L167 Post  (3 : Int32) z g
    )
  ) ∧ (¬ i1 = 5 → (
    ((z 19 3) = (99 : Int32) →
      wp_X2_whyNot_L183 Post  (6 : Int32) z g
    ) ∧ (¬ (z 19 3) = (99 : Int32) →
      wp_X2_whyNot_L183 Post  (0 : Int32) z g
    )
  ))))))))))))
def wp_X2_buy (i1 : Int32) (i2 : Int32) (z : V) (g : VL) (Post : V → VL → Prop) : Prop :=
  vp_in i2 8 ∧
  vp_in i1 6 ∧
  vp_in i2 8 ∧
  vp_in i1 6 ∧
  vp_in i2 8 ∧
  Post (up2 (up2 (up2 z 4 i2.toNatClampNeg i1) 0 i1.toNatClampNeg ((z 0 i1.toNatClampNeg) - (z 3 i2.toNatClampNeg))) 19 2 ((z 19 2) + (z 3 i2.toNatClampNeg))) g
def wp_X2_swap (i1 : Int32) (i2 : Int32) (z : V) (g : VL) (Post : V → VL → Prop) : Prop :=
  vp_in i1 6 ∧
  wp_X2_worth i2 z g (fun r1 z_1 g_1 =>
  vp_in i1 6 ∧
  vp_in i1 6 ∧
  vp_in i1 6 ∧
  Post (up2 (up2 (up2 z_1 1 i1.toNatClampNeg ((z 1 i1.toNatClampNeg) + r1)) 0 i1.toNatClampNeg ((z_1 0 i1.toNatClampNeg) - i2)) 19 0 ((z_1 19 0) + i2)) g_1
  )
def wp_X2_pay (i1 : Int32) (i2 : Int32) (z : V) (g : VL) (Post : V → VL → Prop) : Prop :=
  wp_X2_payment i1 i2 z g (fun r1 z_1 g_1 =>
  vp_in (((6 : Int32) * i1) + i2) 36 ∧
  vp_in (((6 : Int32) * i1) + i2) 36 ∧
  vp_in i1 6 ∧
  vp_in i1 6 ∧
  vp_in i2 6 ∧
  vp_in i2 6 ∧
  Post (up2 (up2 (up2 z_1 2 (((6 : Int32) * i1) + i2).toNatClampNeg ((z_1 2 (((6 : Int32) * i1) + i2).toNatClampNeg) - r1)) 0 i1.toNatClampNeg ((z_1 0 i1.toNatClampNeg) - r1)) 0 i2.toNatClampNeg (((up2 (up2 z_1 2 (((6 : Int32) * i1) + i2).toNatClampNeg ((z_1 2 (((6 : Int32) * i1) + i2).toNatClampNeg) - r1)) 0 i1.toNatClampNeg ((z_1 0 i1.toNatClampNeg) - r1)) 0 i2.toNatClampNeg) + r1)) g_1
  )
def wp_X2_happen_L136  (Post : V → VL → Prop)  (z : V) (g : VL) : Prop :=
  Post z g
def wp_X2_happen (i1 : Int32) (i2 : Int32) (i3 : Int32) (z : V) (g : VL) (Post : V → VL → Prop) : Prop :=
  (i1 = 0 →
    wp_X2_happen_L136 Post  (up2 z 19 0 ((z 19 0) + i3)) g
  ) ∧ (¬ i1 = 0 → (
  (i1 = 1 →
    vp_in i2 6 ∧
    vp_in i2 6 ∧
    wp_X2_happen_L136 Post  (up2 (up2 z 0 i2.toNatClampNeg ((z 0 i2.toNatClampNeg) + i3)) 19 1 ((z 19 1) + i3)) g
  ) ∧ (¬ i1 = 1 → (
  (i1 = 2 →
    wp_X2_buy i2 i3 z g (fun z_2 g_2 =>
    wp_X2_happen_L136 Post  z_2 g_2
    )
  ) ∧ (¬ i1 = 2 → (
  (i1 = 3 →
    wp_X2_swap i2 i3 z g (fun z_3 g_3 =>
    wp_X2_happen_L136 Post  z_3 g_3
    )
  ) ∧ (¬ i1 = 3 → (
  (i1 = 4 →
    wp_X2_pay i2 i3 z g (fun z_4 g_4 =>
    wp_X2_happen_L136 Post  z_4 g_4
    )
  ) ∧ (¬ i1 = 4 → (
  (i1 = 5 →
    vp_in i2 6 ∧
    vp_in i2 6 ∧
    wp_X2_happen_L136 Post  (up2 (up2 z 19 0 ((z 19 0) - i3)) 0 i2.toNatClampNeg ((z 0 i2.toNatClampNeg) + i3)) g
  ) ∧ (¬ i1 = 5 → (
    wp_X2_happen_L136 Post  (up2 z 19 3 ((z 19 3) + (1 : Int32))) g
  ))))))))))))
def wp_X2_goMonths_L149  (Post : V → VL → Prop) (K19 : Int32 → V → VL → Prop) (i1 : Int32) (z : V) (g : VL) : Prop :=
  K19 (i1 + 1) z g
def wp_X2_goMonths_L145  (Post : V → VL → Prop) (K19 : Int32 → V → VL → Prop) (i1 : Int32) (is0 : Int32) (is1 : Int32) (z : V) (g : VL) : Prop :=
  wp_X2_goMonths_L149 Post K19 i1 (up2 z 19 9 (is1 + is0)) g
def wp_X2_goMonths_L82  (Post : V → VL → Prop) (K19 : Int32 → V → VL → Prop) (i1 : Int32) (i2 : Int32) (is0 : Int32) (z : V) (g : VL) : Prop :=
  (i2 = 0 →
    vp_in i1 60 ∧
    vp_in i1 60 ∧
    vp_in i1 60 ∧
    wp_X2_happen (z 9 i1.toNatClampNeg) (z 10 i1.toNatClampNeg) (z 11 i1.toNatClampNeg) (up2 z 19 8 is0) g (fun z_1 g_1 =>
    wp_X2_rate z_1 g_1 (fun r2 z_2 g_2 =>
    vp_in (z_1 19 9) 60 ∧
    vp_in i1 60 ∧
    ((z_2 9 i1.toNatClampNeg) = (6 : Int32) →
      wp_X2_goMonths_L145 Post K19 i1 (1 : Int32) (z_2 19 9) (up2 z_2 13 (z_1 19 9).toNatClampNeg r2) g_2
    ) ∧ (¬ (z_2 9 i1.toNatClampNeg) = (6 : Int32) →
      wp_X2_goMonths_L145 Post K19 i1 (0 : Int32) (z_2 19 9) (up2 z_2 13 (z_1 19 9).toNatClampNeg r2) g_2
    )
    )
    )
  ) ∧ (¬ i2 = 0 →
    wp_X2_goMonths_L149 Post K19 i1 (up2 z 19 8 is0) g
  )
def wp_X2_goMonths_L68  (Post : V → VL → Prop) (K19 : Int32 → V → VL → Prop) (i1 : Int32) (i2 : Int32) (is0 : Int32) (z : V) (g : VL) : Prop :=
  (i2 ≤ 0 →
    wp_X2_goMonths_L82 Post K19 i1 i2 (-6 : Int32) (up2 z 19 7 is0) g
  ) ∧ (¬ i2 ≤ 0 →
    wp_X2_goMonths_L82 Post K19 i1 i2 i2 (up2 z 19 7 is0) g
  )
def wp_X2_goMonths_L155  (Post : V → VL → Prop)  (z : V) (g : VL) : Prop :=
  Post z g
def wp_X2_goMonths_S19  (Post : V → VL → Prop)  (K19 : Int32 → V → VL → Prop) (i1 : Int32) (z : V) (g : VL) : Prop :=
  ((z 19 6) ≤ i1 →
    wp_X2_goMonths_L155 Post  z g
  ) ∧ (¬ (z 19 6) ≤ i1 →
    (0 ≤ (z 19 7) →
      wp_X2_goMonths_L155 Post  z g
    ) ∧ (¬ 0 ≤ (z 19 7) →
      vp_in i1 60 ∧
      vp_in i1 60 ∧
      vp_in i1 60 ∧
      wp_X2_whyNot (z 9 i1.toNatClampNeg) (z 10 i1.toNatClampNeg) (z 11 i1.toNatClampNeg) z g (fun r1 z_1 g_1 =>
      (r1 ≤ 0 →
        wp_X2_goMonths_L68 Post K19 i1 r1 (-6 : Int32) z_1 g_1
      ) ∧ (¬ r1 ≤ 0 →
        wp_X2_goMonths_L68 Post K19 i1 r1 i1 z_1 g_1
      )
      )
    )
  )
def wp_X2_goMonths_L19  (Post : V → VL → Prop)  : Nat → Int32 → V → VL → Prop
  | 0 => fun _ _ _ => False
  | n + 1 => wp_X2_goMonths_S19  Post  (wp_X2_goMonths_L19  Post  n)
def wp_X2_goMonths (z : V) (g : VL) (Post : V → VL → Prop) : Prop :=
  ∃ n, wp_X2_goMonths_L19 Post  n (0 : Int32) (up2 (up2 (up2 z 19 7 (-6 : Int32)) 19 8 (-6 : Int32)) 19 9 (0 : Int32)) g
def wp_X2_refusal_L32  (Post : Int32 → V → VL → Prop)  (is0 : Int32) (z : V) (g : VL) : Prop :=
  Post is0 z g
def wp_X2_refusal (z : V) (g : VL) (Post : Int32 → V → VL → Prop) : Prop :=
  wp_X2_keepNow z g (fun z_1 g_1 =>
  wp_X2_fault z_1 g_1 (fun r2 z_2 g_2 =>
  (r2 < 0 →
    wp_X2_goMonths z_2 g_2 (fun z_3 g_3 =>
    ((z_3 19 7) < 0 →
      wp_X2_refusal_L32 Post  (-6 : Int32) z_3 g_3
    ) ∧ (¬ (z_3 19 7) < 0 →
      wp_X2_refusal_L32 Post  (-3 : Int32) z_3 g_3
    )
    )
  ) ∧ (¬ r2 < 0 →
    Post (-5 : Int32) z_2 g_2
  )
  )
  )
def wp_X2_back_S72  (Post : Int32 → V → VL → Prop)  (K72 : Int32 → Int32 → V → VL → Prop) (i1 : Int32) (i2 : Int32) (z : V) (g : VL) : Prop :=
  ((8 : Int32) ≤ i2 →
    Post i1 (up2 (up2 (up2 (up2 z 19 0 (z 12 (56 : Int32).toNatClampNeg)) 19 1 (z 12 (57 : Int32).toNatClampNeg)) 19 2 (z 12 (58 : Int32).toNatClampNeg)) 19 3 (z 12 (59 : Int32).toNatClampNeg)) g
  ) ∧ (¬ (8 : Int32) ≤ i2 →
    vp_in ((48 : Int32) + i2) 60 ∧
    vp_in i2 8 ∧
    K72 i1 (i2 + 1) (up2 z 4 i2.toNatClampNeg (z 12 ((48 : Int32) + i2).toNatClampNeg)) g
  )
def wp_X2_back_L72  (Post : Int32 → V → VL → Prop)  : Nat → Int32 → Int32 → V → VL → Prop
  | 0 => fun _ _ _ _ => False
  | n + 1 => wp_X2_back_S72  Post  (wp_X2_back_L72  Post  n)
def wp_X2_back_S43  (Post : Int32 → V → VL → Prop)  (K43 : Int32 → Int32 → V → VL → Prop) (i1 : Int32) (i2 : Int32) (z : V) (g : VL) : Prop :=
  ((36 : Int32) ≤ i2 →
    ∃ n, wp_X2_back_L72 Post  n i1 (0 : Int32) z g
  ) ∧ (¬ (36 : Int32) ≤ i2 →
    vp_in ((12 : Int32) + i2) 60 ∧
    vp_in i2 36 ∧
    K43 i1 (i2 + 1) (up2 z 2 i2.toNatClampNeg (z 12 ((12 : Int32) + i2).toNatClampNeg)) g
  )
def wp_X2_back_L43  (Post : Int32 → V → VL → Prop)  : Nat → Int32 → Int32 → V → VL → Prop
  | 0 => fun _ _ _ _ => False
  | n + 1 => wp_X2_back_S43  Post  (wp_X2_back_L43  Post  n)
def wp_X2_back_S2  (Post : Int32 → V → VL → Prop)  (K2 : Int32 → Int32 → V → VL → Prop) (i1 : Int32) (i2 : Int32) (z : V) (g : VL) : Prop :=
  ((6 : Int32) ≤ i2 →
    ∃ n, wp_X2_back_L43 Post  n i1 (0 : Int32) z g
  ) ∧ (¬ (6 : Int32) ≤ i2 →
    vp_in i2 60 ∧
    vp_in i2 6 ∧
    vp_in ((6 : Int32) + i2) 60 ∧
    vp_in i2 6 ∧
    K2 i1 (i2 + 1) (up2 (up2 z 0 i2.toNatClampNeg (z 12 i2.toNatClampNeg)) 1 i2.toNatClampNeg (z 12 ((6 : Int32) + i2).toNatClampNeg)) g
  )
def wp_X2_back_L2  (Post : Int32 → V → VL → Prop)  : Nat → Int32 → Int32 → V → VL → Prop
  | 0 => fun _ _ _ _ => False
  | n + 1 => wp_X2_back_S2  Post  (wp_X2_back_L2  Post  n)
def wp_X2_back (i1 : Int32) (z : V) (g : VL) (Post : Int32 → V → VL → Prop) : Prop :=
  ∃ n, wp_X2_back_L2 Post  n i1 (0 : Int32) z g
def wp_X2_judge_L41  (Post : Int32 → V → VL → Prop)  (i2 : Int32) (z : V) (g : VL) : Prop :=
  Post i2 z g
def wp_X2_judge_L70  (Post : Int32 → V → VL → Prop)  (is0 : Int32) (z : V) (g : VL) : Prop :=
  Post is0 z g
def wp_X2_judge_L43  (Post : Int32 → V → VL → Prop)  (i1 : Int32) (z : V) (g : VL) : Prop :=
  (i1 = 0 →
    wp_X2_judge_L70 Post  (z 19 7) z g
  ) ∧ (¬ i1 = 0 →
    (i1 = (1 : Int32) →
      wp_X2_judge_L70 Post  (z 19 8) z g
    ) ∧ (¬ i1 = (1 : Int32) →
      wp_X2_judge_L70 Post  (z 19 9) z g
    )
  )
def wp_X2_judge (i1 : Int32) (z : V) (g : VL) (Post : Int32 → V → VL → Prop) : Prop :=
  wp_X2_in i1.toInt64 (0 : Int64) (2 : Int64) (fun r1 =>
  (r1 = 0 →
    Post (-2 : Int32) z g
  ) ∧ (¬ r1 = 0 →
    wp_X2_refusal z g (fun r2 z_2 g_2 =>
    wp_X2_back r2 z_2 g_2 (fun r3 z_3 g_3 =>
    (r3 = (-5 : Int32) →
      wp_X2_judge_L41 Post  r3 z_3 g_3
    ) ∧ (¬ r3 = (-5 : Int32) →
      (i1 ≤ (1 : Int32) →
        wp_X2_judge_L43 Post  i1 z_3 g_3
      ) ∧ (¬ i1 ≤ (1 : Int32) →
        (r3 = (-3 : Int32) →
          wp_X2_judge_L41 Post  r3 z_3 g_3
        ) ∧ (¬ r3 = (-3 : Int32) →
          wp_X2_judge_L43 Post  i1 z_3 g_3
        )
      )
    )
    )
    )
  )
  )
def wp_X2_lotsOf_L28  (Post : Int32 → V → VL → Prop) (K4 : Int32 → Int32 → Int32 → V → VL → Prop) (i1 : Int32) (i3 : Int32) (is0 : Int32) (is1 : Int32) (z : V) (g : VL) : Prop :=
  K4 i1 (is1 ||| is0) (i3 + 1) z g
def wp_X2_lotsOf_S4  (Post : Int32 → V → VL → Prop)  (K4 : Int32 → Int32 → Int32 → V → VL → Prop) (i1 : Int32) (i2 : Int32) (i3 : Int32) (z : V) (g : VL) : Prop :=
  ((8 : Int32) ≤ i3 →
    Post i2 z g
  ) ∧ (¬ (8 : Int32) ≤ i3 →
    vp_in i3 8 ∧
    ((z 4 i3.toNatClampNeg) = i1 →
      wp_X2_lotsOf_L28 Post K4 i1 i3 ((1 : Int32) <<< (i3 &&& 31)) i2 z g
    ) ∧ (¬ (z 4 i3.toNatClampNeg) = i1 →
      wp_X2_lotsOf_L28 Post K4 i1 i3 (0 : Int32) i2 z g
    )
  )
def wp_X2_lotsOf_L4  (Post : Int32 → V → VL → Prop)  : Nat → Int32 → Int32 → Int32 → V → VL → Prop
  | 0 => fun _ _ _ _ _ => False
  | n + 1 => wp_X2_lotsOf_S4  Post  (wp_X2_lotsOf_L4  Post  n)
def wp_X2_lotsOf (i1 : Int32) (z : V) (g : VL) (Post : Int32 → V → VL → Prop) : Prop :=
  ∃ n, wp_X2_lotsOf_L4 Post  n i1 (0 : Int32) (0 : Int32) z g
def wp_X2_owesInAll_S4  (Post : Int32 → V → VL → Prop)  (K4 : Int32 → Int32 → Int32 → V → VL → Prop) (i1 : Int32) (i2 : Int32) (i3 : Int32) (z : V) (g : VL) : Prop :=
  ((6 : Int32) ≤ i3 →
    Post i2 z g
  ) ∧ (¬ (6 : Int32) ≤ i3 →
    vp_in (((6 : Int32) * i1) + i3) 36 ∧
    K4 i1 (i2 + (z 2 (((6 : Int32) * i1) + i3).toNatClampNeg)) (i3 + 1) z g
  )
def wp_X2_owesInAll_L4  (Post : Int32 → V → VL → Prop)  : Nat → Int32 → Int32 → Int32 → V → VL → Prop
  | 0 => fun _ _ _ _ _ => False
  | n + 1 => wp_X2_owesInAll_S4  Post  (wp_X2_owesInAll_L4  Post  n)
def wp_X2_owesInAll (i1 : Int32) (z : V) (g : VL) (Post : Int32 → V → VL → Prop) : Prop :=
  ∃ n, wp_X2_owesInAll_L4 Post  n i1 (0 : Int32) (0 : Int32) z g
def wp_X2_ofOne (i1 : Int32) (i2 : Int32) (z : V) (g : VL) (Post : Int32 → V → VL → Prop) : Prop :=
  (i2 = 0 →
    vp_in i1 6 ∧
    Post (z 0 i1.toNatClampNeg) z g
  ) ∧ (¬ i2 = 0 → (
  (i2 = 1 →
    vp_in i1 6 ∧
    Post (z 1 i1.toNatClampNeg) z g
  ) ∧ (¬ i2 = 1 → (
  (i2 = 2 →
    wp_X2_lotsOf i1 z g (fun r2 z_2 g_2 =>
    Post r2 z_2 g_2
    )
  ) ∧ (¬ i2 = 2 → (
    wp_X2_owesInAll i1 z g (fun r3 z_3 g_3 =>
    Post r3 z_3 g_3
    )
  ))))))
def wp_X2_behind_L46  (Post : Int32 → V → VL → Prop)  (is0 : Int32) (z : V) (g : VL) : Prop :=
  wp_X2_back is0 z g (fun r1 z_1 g_1 =>
  Post r1 z_1 g_1
  )
def wp_X2_behind (i1 : Int32) (i2 : Int32) (z : V) (g : VL) (Post : Int32 → V → VL → Prop) : Prop :=
  wp_X2_isOne i1 (fun r1 =>
  (r1 = 0 →
    Post (-1 : Int32) z g
  ) ∧ (¬ r1 = 0 →
    wp_X2_in i2.toInt64 (0 : Int64) (3 : Int64) (fun r2 =>
    (r2 = 0 →
      Post (-2 : Int32) z g
    ) ∧ (¬ r2 = 0 →
      wp_X2_refusal z g (fun r3 z_3 g_3 =>
      (r3 = (-6 : Int32) →
        wp_X2_ofOne i1 i2 z_3 g_3 (fun r4 z_4 g_4 =>
        wp_X2_behind_L46 Post  r4 z_4 g_4
        )
      ) ∧ (¬ r3 = (-6 : Int32) →
        wp_X2_behind_L46 Post  r3 z_3 g_3
      )
      )
    )
    )
  )
  )
def wp_X2_ofAll (i1 : Int32) (z : V) (g : VL) (Post : Int32 → V → VL → Prop) : Prop :=
  (i1 = 0 →
    wp_X2_notes z g (fun r2 z_2 g_2 =>
    Post r2 z_2 g_2
    )
  ) ∧ (¬ i1 = 0 → (
  (i1 = 1 →
    wp_X2_land z g (fun r3 z_3 g_3 =>
    Post r3 z_3 g_3
    )
  ) ∧ (¬ i1 = 1 → (
  (i1 = 2 →
    wp_X2_rate z g (fun r4 z_4 g_4 =>
    Post r4 z_4 g_4
    )
  ) ∧ (¬ i1 = 2 → (
  (i1 = 3 →
    Post (z 19 2) z g
  ) ∧ (¬ i1 = 3 → (
  (i1 = 4 →
    Post (z 19 1) z g
  ) ∧ (¬ i1 = 4 → (
    Post (z 19 3) z g
  ))))))))))
def wp_X2_total_L36  (Post : Int32 → V → VL → Prop)  (is0 : Int32) (z : V) (g : VL) : Prop :=
  wp_X2_back is0 z g (fun r1 z_1 g_1 =>
  Post r1 z_1 g_1
  )
def wp_X2_total (i1 : Int32) (z : V) (g : VL) (Post : Int32 → V → VL → Prop) : Prop :=
  wp_X2_in i1.toInt64 (0 : Int64) (5 : Int64) (fun r1 =>
  (r1 = 0 →
    Post (-2 : Int32) z g
  ) ∧ (¬ r1 = 0 →
    wp_X2_refusal z g (fun r2 z_2 g_2 =>
    (r2 = (-6 : Int32) →
      wp_X2_ofAll i1 z_2 g_2 (fun r3 z_3 g_3 =>
      wp_X2_total_L36 Post  r3 z_3 g_3
      )
    ) ∧ (¬ r2 = (-6 : Int32) →
      wp_X2_total_L36 Post  r2 z_2 g_2
    )
    )
  )
  )
def wp_X2_fell_S34  (Post : Int32 → V → VL → Prop)  (K34 : Int32 → Int32 → V → VL → Prop) (i1 : Int32) (i3 : Int32) (z : V) (g : VL) : Prop :=
  ((z 19 9) ≤ i3 →
    Post (-6 : Int32) z g
  ) ∧ (¬ (z 19 9) ≤ i3 →
    vp_in i3 60 ∧
    (i1 ≤ (z 13 i3.toNatClampNeg) →
      K34 i1 (i3 + 1) z g
    ) ∧ (¬ i1 ≤ (z 13 i3.toNatClampNeg) →
      Post i3 z g
    )
  )
def wp_X2_fell_L34  (Post : Int32 → V → VL → Prop)  : Nat → Int32 → Int32 → V → VL → Prop
  | 0 => fun _ _ _ _ => False
  | n + 1 => wp_X2_fell_S34  Post  (wp_X2_fell_L34  Post  n)
def wp_X2_fell (i1 : Int32) (z : V) (g : VL) (Post : Int32 → V → VL → Prop) : Prop :=
  wp_X2_in i1.toInt64 (0 : Int64) (100 : Int64) (fun r1 =>
  (r1 = 0 →
    Post (-2 : Int32) z g
  ) ∧ (¬ r1 = 0 →
    wp_X2_refusal z g (fun r2 z_2 g_2 =>
    wp_X2_back r2 z_2 g_2 (fun r3 z_3 g_3 =>
    (r3 = (-6 : Int32) →
      ∃ n, wp_X2_fell_L34 Post  n i1 (0 : Int32) z_3 g_3
    ) ∧ (¬ r3 = (-6 : Int32) →
      Post r3 z_3 g_3
    )
    )
    )
  )
  )
def wp_X2_done (z : V) (g : VL) (Post : Int32 → V → VL → Prop) : Prop :=
  wp_X2_refusal z g (fun r1 z_1 g_1 =>
  (r1 = (-6 : Int32) →
    Post (z_1 19 6) (up2 z_1 19 5 (0 : Int32)) g_1
  ) ∧ (¬ r1 = (-6 : Int32) →
    wp_X2_back r1 z_1 g_1 (fun r2 z_2 g_2 =>
    Post r2 z_2 g_2
    )
  )
  )
def wp_X2_netOf_L30  (Post : Int32 → V → VL → Prop) (K4 : Int32 → Int32 → Int32 → V → VL → Prop) (i1 : Int32) (i3 : Int32) (is0 : Int32) (is1 : Int32) (z : V) (g : VL) : Prop :=
  K4 i1 (is1 + is0) (i3 + 1) z g
def wp_X2_netOf_S4  (Post : Int32 → V → VL → Prop)  (K4 : Int32 → Int32 → Int32 → V → VL → Prop) (i1 : Int32) (i2 : Int32) (i3 : Int32) (z : V) (g : VL) : Prop :=
  ((6 : Int32) ≤ i3 →
    Post i2 z g
  ) ∧ (¬ (6 : Int32) ≤ i3 →
    (((i1 >>> (i3 &&& 31)) &&& (1 : Int32)) = (1 : Int32) →
      vp_in i3 6 ∧
      wp_X2_netOf_L30 Post K4 i1 i3 (z 14 i3.toNatClampNeg) i2 z g
    ) ∧ (¬ ((i1 >>> (i3 &&& 31)) &&& (1 : Int32)) = (1 : Int32) →
      wp_X2_netOf_L30 Post K4 i1 i3 (0 : Int32) i2 z g
    )
  )
def wp_X2_netOf_L4  (Post : Int32 → V → VL → Prop)  : Nat → Int32 → Int32 → Int32 → V → VL → Prop
  | 0 => fun _ _ _ _ _ => False
  | n + 1 => wp_X2_netOf_S4  Post  (wp_X2_netOf_L4  Post  n)
def wp_X2_netOf (i1 : Int32) (z : V) (g : VL) (Post : Int32 → V → VL → Prop) : Prop :=
  ∃ n, wp_X2_netOf_L4 Post  n i1 (0 : Int32) (0 : Int32) z g
def wp_X2_mostEven_L100  (Post : Int32 → V → VL → Prop) (K17 : Int32 → Int32 → Int32 → V → VL → Prop) (i1 : Int32) (i3 : Int32) (is0 : Int32) (z : V) (g : VL) : Prop :=
  K17 i1 is0 (i3 + 1) z g
def wp_X2_mostEven_L86  (Post : Int32 → V → VL → Prop) (K17 : Int32 → Int32 → Int32 → V → VL → Prop) (i1 : Int32) (i2 : Int32) (i3 : Int32) (is0 : Int32) (z : V) (g : VL) : Prop :=
  (is0 ≤ i2 →
    wp_X2_mostEven_L100 Post K17 i1 i3 i2 z g
  ) ∧ (¬ is0 ≤ i2 →
    wp_X2_mostEven_L100 Post K17 i1 i3 is0 z g
  )
def wp_X2_mostEven_L57  (Post : Int32 → V → VL → Prop) (K17 : Int32 → Int32 → Int32 → V → VL → Prop) (i1 : Int32) (i2 : Int32) (i3 : Int32) (is0 : Int32) (z : V) (g : VL) : Prop :=
  (is0 = 0 →
    wp_X2_mostEven_L86 Post K17 i1 i2 i3 (-6 : Int32) z g
  ) ∧ (¬ is0 = 0 →
    vp_in i3 64 ∧
    vp_in (i1 &&& (i3 ^^^ (-1 : Int32))) 64 ∧
    wp_X2_mostEven_L86 Post K17 i1 i2 i3 ((z 15 i3.toNatClampNeg) + (z 15 (i1 &&& (i3 ^^^ (-1 : Int32))).toNatClampNeg)) z g
  )
def wp_X2_mostEven_L56  (Post : Int32 → V → VL → Prop) (K17 : Int32 → Int32 → Int32 → V → VL → Prop) (i1 : Int32) (i2 : Int32) (i3 : Int32) (z : V) (g : VL) : Prop :=
  wp_X2_mostEven_L57 Post K17 i1 i2 i3 (0 : Int32) z g
def wp_X2_mostEven_S17  (Post : Int32 → V → VL → Prop)  (K17 : Int32 → Int32 → Int32 → V → VL → Prop) (i1 : Int32) (i2 : Int32) (i3 : Int32) (z : V) (g : VL) : Prop :=
  (i1 ≤ i3 →
    Post i2 z g
  ) ∧ (¬ i1 ≤ i3 →
    ((i3 &&& (i1 ^^^ (-1 : Int32))) = 0 →
      vp_in i3 64 ∧
      ((z 15 i3.toNatClampNeg) ≤ 0 →
        wp_X2_mostEven_L56 Post K17 i1 i2 i3 z g
      ) ∧ (¬ (z 15 i3.toNatClampNeg) ≤ 0 →
        vp_in (i1 &&& (i3 ^^^ (-1 : Int32))) 64 ∧
        ((z 15 (i1 &&& (i3 ^^^ (-1 : Int32))).toNatClampNeg) ≤ 0 →
          wp_X2_mostEven_L56 Post K17 i1 i2 i3 z g
        ) ∧ (¬ (z 15 (i1 &&& (i3 ^^^ (-1 : Int32))).toNatClampNeg) ≤ 0 →
          wp_X2_mostEven_L57 Post K17 i1 i2 i3 (1 : Int32) z g
        )
      )
    ) ∧ (¬ (i3 &&& (i1 ^^^ (-1 : Int32))) = 0 →
      wp_X2_mostEven_L56 Post K17 i1 i2 i3 z g
    )
  )
def wp_X2_mostEven_L17  (Post : Int32 → V → VL → Prop)  : Nat → Int32 → Int32 → Int32 → V → VL → Prop
  | 0 => fun _ _ _ _ _ => False
  | n + 1 => wp_X2_mostEven_S17  Post  (wp_X2_mostEven_L17  Post  n)
def wp_X2_mostEven_L14  (Post : Int32 → V → VL → Prop)  (i1 : Int32) (is0 : Int32) (z : V) (g : VL) : Prop :=
  ∃ n, wp_X2_mostEven_L17 Post  n i1 is0 (1 : Int32) z g
def wp_X2_mostEven (i1 : Int32) (z : V) (g : VL) (Post : Int32 → V → VL → Prop) : Prop :=
  wp_X2_netOf i1 z g (fun r1 z_1 g_1 =>
  (r1 = 0 →
    wp_X2_mostEven_L14 Post  i1 (1 : Int32) z_1 g_1
  ) ∧ (¬ r1 = 0 →
    wp_X2_mostEven_L14 Post  i1 (-6 : Int32) z_1 g_1
  )
  )
def wp_X2_struck_L92  (Post : Int32 → V → VL → Prop) (K17 : Int32 → Int32 → Int32 → V → VL → Prop) (i1 : Int32) (i3 : Int32) (is0 : Int32) (is1 : Int32) (z : V) (g : VL) : Prop :=
  K17 i1 (is1 + is0) (i3 + 1) z g
def wp_X2_struck_S38  (Post : Int32 → V → VL → Prop) (K17 : Int32 → Int32 → Int32 → V → VL → Prop) (K38 : Int32 → Int32 → Int32 → Int32 → V → VL → Prop) (i1 : Int32) (i2 : Int32) (i3 : Int32) (i4 : Int32) (z : V) (g : VL) : Prop :=
  ((6 : Int32) ≤ i4 →
    vp_in i3 6 ∧
    ((z 14 i3.toNatClampNeg) ≤ 0 →
      wp_X2_struck_L92 Post K17 i1 i3 (0 : Int32) i2 z g
    ) ∧ (¬ (z 14 i3.toNatClampNeg) ≤ 0 →
      vp_in i3 6 ∧
      wp_X2_struck_L92 Post K17 i1 i3 (z 14 i3.toNatClampNeg) i2 z g
    )
  ) ∧ (¬ (6 : Int32) ≤ i4 →
    vp_in i3 6 ∧
    vp_in (((6 : Int32) * i4) + i3) 36 ∧
    vp_in i3 6 ∧
    K38 i1 i2 i3 (i4 + 1) (up2 z 14 i3.toNatClampNeg ((z 14 i3.toNatClampNeg) + (z 2 (((6 : Int32) * i4) + i3).toNatClampNeg))) g
  )
def wp_X2_struck_L38  (Post : Int32 → V → VL → Prop) (K17 : Int32 → Int32 → Int32 → V → VL → Prop) : Nat → Int32 → Int32 → Int32 → Int32 → V → VL → Prop
  | 0 => fun _ _ _ _ _ _ => False
  | n + 1 => wp_X2_struck_S38  Post K17 (wp_X2_struck_L38  Post K17 n)
def wp_X2_struck_S109  (Post : Int32 → V → VL → Prop)  (K109 : Int32 → V → VL → Prop) (i3 : Int32) (z : V) (g : VL) : Prop :=
  ((64 : Int32) ≤ i3 →
    Post ((6 : Int32) - (z 15 (63 : Int32).toNatClampNeg)) z g
  ) ∧ (¬ (64 : Int32) ≤ i3 →
    wp_X2_mostEven i3 z g (fun r1 z_1 g_1 =>
    vp_in i3 64 ∧
    K109 (i3 + 1) (up2 z_1 15 i3.toNatClampNeg r1) g_1
    )
  )
def wp_X2_struck_L109  (Post : Int32 → V → VL → Prop)  : Nat → Int32 → V → VL → Prop
  | 0 => fun _ _ _ => False
  | n + 1 => wp_X2_struck_S109  Post  (wp_X2_struck_L109  Post  n)
def wp_X2_struck_S17  (Post : Int32 → V → VL → Prop)  (K17 : Int32 → Int32 → Int32 → V → VL → Prop) (i1 : Int32) (i2 : Int32) (i3 : Int32) (z : V) (g : VL) : Prop :=
  ((6 : Int32) ≤ i3 →
    (i1 = (1 : Int32) →
      Post i2 z g
    ) ∧ (¬ i1 = (1 : Int32) →
      ∃ n, wp_X2_struck_L109 Post  n (1 : Int32) z g
    )
  ) ∧ (¬ (6 : Int32) ≤ i3 →
    wp_X2_owesInAll i3 z g (fun r1 z_1 g_1 =>
    vp_in i3 6 ∧
    ∃ n, wp_X2_struck_L38 Post K17 n i1 i2 i3 (0 : Int32) (up2 z_1 14 i3.toNatClampNeg (-r1)) g_1
    )
  )
def wp_X2_struck_L17  (Post : Int32 → V → VL → Prop)  : Nat → Int32 → Int32 → Int32 → V → VL → Prop
  | 0 => fun _ _ _ _ _ => False
  | n + 1 => wp_X2_struck_S17  Post  (wp_X2_struck_L17  Post  n)
def wp_X2_struck (i1 : Int32) (z : V) (g : VL) (Post : Int32 → V → VL → Prop) : Prop :=
  wp_X2_in i1.toInt64 (0 : Int64) (1 : Int64) (fun r1 =>
  (r1 = 0 →
    Post (-2 : Int32) z g
  ) ∧ (¬ r1 = 0 →
    ∃ n, wp_X2_struck_L17 Post  n i1 (0 : Int32) (0 : Int32) z g
  )
  )
def wp_X2_prints_L55  (Post : Int32 → V → VL → Prop) (K20 : Int32 → Int32 → Int32 → V → VL → Prop) (i1 : Int32) (i3 : Int32) (is0 : Int32) (z : V) (g : VL) : Prop :=
  K20 i1 is0 (i3 + 1) z g
def wp_X2_prints_S20  (Post : Int32 → V → VL → Prop)  (K20 : Int32 → Int32 → Int32 → V → VL → Prop) (i1 : Int32) (i2 : Int32) (i3 : Int32) (z : V) (g : VL) : Prop :=
  ((999 : Int32) < i3 →
    Post i2 z g
  ) ∧ (¬ (999 : Int32) < i3 →
    wp_X2_land z g (fun r1 z_1 g_1 =>
    wp_X2_notes z_1 g_1 (fun r2 z_2 g_2 =>
    wp_X2_rateOf r1 (r2.toInt64 + ((100 : Int64) * i3.toInt64)) (fun r3 =>
    (r3 < i1 →
      wp_X2_prints_L55 Post K20 i1 i3 i2 z_2 g_2
    ) ∧ (¬ r3 < i1 →
      wp_X2_prints_L55 Post K20 i1 i3 i3 z_2 g_2
    )
    )
    )
    )
  )
def wp_X2_prints_L20  (Post : Int32 → V → VL → Prop)  : Nat → Int32 → Int32 → Int32 → V → VL → Prop
  | 0 => fun _ _ _ _ _ => False
  | n + 1 => wp_X2_prints_S20  Post  (wp_X2_prints_L20  Post  n)
def wp_X2_prints (i1 : Int32) (z : V) (g : VL) (Post : Int32 → V → VL → Prop) : Prop :=
  wp_X2_in i1.toInt64 (1 : Int64) (100 : Int64) (fun r1 =>
  (r1 = 0 →
    Post (-2 : Int32) z g
  ) ∧ (¬ r1 = 0 →
    ∃ n, wp_X2_prints_L20 Post  n i1 (-6 : Int32) (0 : Int32) z g
  )
  )
def wp_X2_pricesOf_L30  (Post : Int32 → V → VL → Prop) (K4 : Int32 → Int32 → Int32 → V → VL → Prop) (i1 : Int32) (i3 : Int32) (is0 : Int32) (is1 : Int32) (z : V) (g : VL) : Prop :=
  K4 i1 (is1 + is0) (i3 + 1) z g
def wp_X2_pricesOf_S4  (Post : Int32 → V → VL → Prop)  (K4 : Int32 → Int32 → Int32 → V → VL → Prop) (i1 : Int32) (i2 : Int32) (i3 : Int32) (z : V) (g : VL) : Prop :=
  ((8 : Int32) ≤ i3 →
    Post i2 z g
  ) ∧ (¬ (8 : Int32) ≤ i3 →
    (((i1 >>> (i3 &&& 31)) &&& (1 : Int32)) = (1 : Int32) →
      vp_in i3 8 ∧
      wp_X2_pricesOf_L30 Post K4 i1 i3 (z 3 i3.toNatClampNeg) i2 z g
    ) ∧ (¬ ((i1 >>> (i3 &&& 31)) &&& (1 : Int32)) = (1 : Int32) →
      wp_X2_pricesOf_L30 Post K4 i1 i3 (0 : Int32) i2 z g
    )
  )
def wp_X2_pricesOf_L4  (Post : Int32 → V → VL → Prop)  : Nat → Int32 → Int32 → Int32 → V → VL → Prop
  | 0 => fun _ _ _ _ _ => False
  | n + 1 => wp_X2_pricesOf_S4  Post  (wp_X2_pricesOf_L4  Post  n)
def wp_X2_pricesOf (i1 : Int32) (z : V) (g : VL) (Post : Int32 → V → VL → Prop) : Prop :=
  ∃ n, wp_X2_pricesOf_L4 Post  n i1 (0 : Int32) (0 : Int32) z g
def wp_X2_buys_L22  (Post : Int32 → V → VL → Prop)  (z : V) (g : VL) : Prop :=
  Post (-2 : Int32) z g
def wp_X2_buys_L99  (Post : Int32 → V → VL → Prop) (K38 : Int32 → Int32 → Int32 → Int32 → Int32 → V → VL → Prop) (i1 : Int32) (i2 : Int32) (i3 : Int32) (i5 : Int32) (is0 : Int32) (z : V) (g : VL) : Prop :=
  K38 i1 i2 i3 is0 (i5 + 1) z g
def wp_X2_buys_L97  (Post : Int32 → V → VL → Prop) (K38 : Int32 → Int32 → Int32 → Int32 → Int32 → V → VL → Prop) (i1 : Int32) (i2 : Int32) (i3 : Int32) (i4 : Int32) (i5 : Int32) (z : V) (g : VL) : Prop :=
  wp_X2_buys_L99 Post K38 i1 i2 i3 i5 i4 z g
def wp_X2_buys_L70  (Post : Int32 → V → VL → Prop) (K38 : Int32 → Int32 → Int32 → Int32 → Int32 → V → VL → Prop) (i1 : Int32) (i2 : Int32) (i3 : Int32) (i4 : Int32) (i5 : Int32) (is0 : Int32) (z : V) (g : VL) : Prop :=
  (is0 = 0 →
    wp_X2_buys_L97 Post K38 i1 i2 i3 i4 i5 z g
  ) ∧ (¬ is0 = 0 →
    wp_X2_pricesOf i5 z g (fun r1 z_1 g_1 =>
    wp_X2_pricesOf i4 z_1 g_1 (fun r2 z_2 g_2 =>
    (r1 ≤ r2 →
      wp_X2_buys_L97 Post K38 i1 i2 i3 i4 i5 z_2 g_2
    ) ∧ (¬ r1 ≤ r2 →
      wp_X2_buys_L99 Post K38 i1 i2 i3 i5 i5 z_2 g_2
    )
    )
    )
  )
def wp_X2_buys_L69  (Post : Int32 → V → VL → Prop) (K38 : Int32 → Int32 → Int32 → Int32 → Int32 → V → VL → Prop) (i1 : Int32) (i2 : Int32) (i3 : Int32) (i4 : Int32) (i5 : Int32) (z : V) (g : VL) : Prop :=
  wp_X2_buys_L70 Post K38 i1 i2 i3 i4 i5 (0 : Int32) z g
def wp_X2_buys_L122  (Post : Int32 → V → VL → Prop)  (is0 : Int32) (z : V) (g : VL) : Prop :=
  Post is0 z g
def wp_X2_buys_S38  (Post : Int32 → V → VL → Prop)  (K38 : Int32 → Int32 → Int32 → Int32 → Int32 → V → VL → Prop) (i1 : Int32) (i2 : Int32) (i3 : Int32) (i4 : Int32) (i5 : Int32) (z : V) (g : VL) : Prop :=
  ((256 : Int32) ≤ i5 →
    (i2 = 0 →
      wp_X2_pricesOf i4 z g (fun r1 z_1 g_1 =>
      wp_X2_buys_L122 Post  r1 z_1 g_1
      )
    ) ∧ (¬ i2 = 0 →
      wp_X2_buys_L122 Post  i4 z g
    )
  ) ∧ (¬ (256 : Int32) ≤ i5 →
    ((i5 &&& (i3 ^^^ (-1 : Int32))) = 0 →
      wp_X2_pricesOf i5 z g (fun r2 z_2 g_2 =>
      (i1 < r2 →
        wp_X2_buys_L69 Post K38 i1 i2 i3 i4 i5 z_2 g_2
      ) ∧ (¬ i1 < r2 →
        wp_X2_buys_L70 Post K38 i1 i2 i3 i4 i5 (1 : Int32) z_2 g_2
      )
      )
    ) ∧ (¬ (i5 &&& (i3 ^^^ (-1 : Int32))) = 0 →
      wp_X2_buys_L69 Post K38 i1 i2 i3 i4 i5 z g
    )
  )
def wp_X2_buys_L38  (Post : Int32 → V → VL → Prop)  : Nat → Int32 → Int32 → Int32 → Int32 → Int32 → V → VL → Prop
  | 0 => fun _ _ _ _ _ _ _ => False
  | n + 1 => wp_X2_buys_S38  Post  (wp_X2_buys_L38  Post  n)
def wp_X2_buys (i1 : Int32) (i2 : Int32) (z : V) (g : VL) (Post : Int32 → V → VL → Prop) : Prop :=
  wp_X2_in i1.toInt64 (0 : Int64) (9999 : Int64) (fun r1 =>
  (r1 = 0 →
    wp_X2_buys_L22 Post  z g
  ) ∧ (¬ r1 = 0 →
    wp_X2_in i2.toInt64 (0 : Int64) (1 : Int64) (fun r2 =>
    (r2 = 0 →
      wp_X2_buys_L22 Post  z g
    ) ∧ (¬ r2 = 0 →
      wp_X2_lotsOf (-6 : Int32) z g (fun r3 z_3 g_3 =>
      ∃ n, wp_X2_buys_L38 Post  n i1 i2 r3 (0 : Int32) (1 : Int32) z_3 g_3
      )
    )
    )
  )
  )
def wp_X2_runs_L36  (Post : Int32 → V → VL → Prop)  (z : V) (g : VL) : Prop :=
  Post (-2 : Int32) z g
def wp_X2_runs_S46  (Post : Int32 → V → VL → Prop)  (K46 : Int32 → Int32 → Int64 → Int32 → V → VL → Prop) (i2 : Int32) (i3 : Int32) (l4 : Int64) (i6 : Int32) (z : V) (g : VL) : Prop :=
  ((100 : Int32) < i6 →
    Post (-6 : Int32) z g
  ) ∧ (¬ (100 : Int32) < i6 →
    wp_X2_land z g (fun r1 z_1 g_1 =>
    wp_X2_rateOf r1 l4 (fun r2 =>
    (i3 ≤ r2 →
      ∀ n3 : Int64, n3 = (l4 + (((l4 * i2.toInt64) / (100 : Int64)) + ((100 : Int64) * ((100 : Int32) - r2).toInt64))) →
      K46 i2 i3 n3 (i6 + 1) z_1 g_1
    ) ∧ (¬ i3 ≤ r2 →
      Post i6 z_1 g_1
    )
    )
    )
  )
def wp_X2_runs_L46  (Post : Int32 → V → VL → Prop)  : Nat → Int32 → Int32 → Int64 → Int32 → V → VL → Prop
  | 0 => fun _ _ _ _ _ _ => False
  | n + 1 => wp_X2_runs_S46  Post  (wp_X2_runs_L46  Post  n)
def wp_X2_runs (i1 : Int32) (i2 : Int32) (i3 : Int32) (z : V) (g : VL) (Post : Int32 → V → VL → Prop) : Prop :=
  wp_X2_in i1.toInt64 (1 : Int64) (99999 : Int64) (fun r1 =>
  (r1 = 0 →
    wp_X2_runs_L36 Post  z g
  ) ∧ (¬ r1 = 0 →
    wp_X2_in i2.toInt64 (0 : Int64) (99 : Int64) (fun r2 =>
    (r2 = 0 →
      wp_X2_runs_L36 Post  z g
    ) ∧ (¬ r2 = 0 →
      wp_X2_in i3.toInt64 (1 : Int64) (100 : Int64) (fun r3 =>
      (r3 = 0 →
        wp_X2_runs_L36 Post  z g
      ) ∧ (¬ r3 = 0 →
        ∃ n, wp_X2_runs_L46 Post  n i2 i3 i1.toInt64 (0 : Int32) z g
      )
      )
    )
    )
  )
  )
def wp_X2_wages_L24  (Post : Int32 → V → VL → Prop)  (z : V) (g : VL) : Prop :=
  Post (-2 : Int32) z g
def wp_X2_wages_L122  (Post : Int32 → V → VL → Prop) (K66 : Int32 → Int32 → Int32 → V → VL → Prop) (i2 : Int32) (i5 : Int32) (is0 : Int32) (is1 : Int32) (z : V) (g : VL) : Prop :=
  K66 i2 (is1 + is0) (i5 + 1) z g
def wp_X2_wages_L92  (Post : Int32 → V → VL → Prop) (K66 : Int32 → Int32 → Int32 → V → VL → Prop) (i2 : Int32) (i4 : Int32) (i5 : Int32) (is0 : Int32) (z : V) (g : VL) : Prop :=
  vp_in i5 9 ∧
  ((z 16 i5.toNatClampNeg) ≤ is0 →
    wp_X2_wages_L122 Post K66 i2 i5 (0 : Int32) i4 z g
  ) ∧ (¬ (z 16 i5.toNatClampNeg) ≤ is0 →
    vp_in i5 9 ∧
    wp_X2_wages_L122 Post K66 i2 i5 ((z 16 i5.toNatClampNeg) - is0) i4 z g
  )
def wp_X2_wages_S66  (Post : Int32 → V → VL → Prop)  (K66 : Int32 → Int32 → Int32 → V → VL → Prop) (i2 : Int32) (i4 : Int32) (i5 : Int32) (z : V) (g : VL) : Prop :=
  ((9 : Int32) ≤ i5 →
    Post i4 z g
  ) ∧ (¬ (9 : Int32) ≤ i5 →
    (i2 ≤ i5 →
      vp_in (i5 - i2) 9 ∧
      wp_X2_wages_L92 Post K66 i2 i4 i5 (z 16 (i5 - i2).toNatClampNeg) z g
    ) ∧ (¬ i2 ≤ i5 →
      wp_X2_wages_L92 Post K66 i2 i4 i5 (0 : Int32) z g
    )
  )
def wp_X2_wages_L66  (Post : Int32 → V → VL → Prop)  : Nat → Int32 → Int32 → Int32 → V → VL → Prop
  | 0 => fun _ _ _ _ _ => False
  | n + 1 => wp_X2_wages_S66  Post  (wp_X2_wages_L66  Post  n)
def wp_X2_wages_S33  (Post : Int32 → V → VL → Prop)  (K33 : Int32 → Int32 → Int32 → V → VL → Prop) (i2 : Int32) (i3 : Int32) (i4 : Int32) (z : V) (g : VL) : Prop :=
  (i4 < 0 →
    ∃ n, wp_X2_wages_L66 Post  n i2 (0 : Int32) (0 : Int32) z g
  ) ∧ (¬ i4 < 0 →
    vp_in i4 9 ∧
    K33 i2 (i3 / (10 : Int32)) (i4 + (-1)) (up2 z 16 i4.toNatClampNeg (i3 - i3 / (10 : Int32) * (10 : Int32))) g
  )
def wp_X2_wages_L33  (Post : Int32 → V → VL → Prop)  : Nat → Int32 → Int32 → Int32 → V → VL → Prop
  | 0 => fun _ _ _ _ _ => False
  | n + 1 => wp_X2_wages_S33  Post  (wp_X2_wages_L33  Post  n)
def wp_X2_wages (i1 : Int32) (i2 : Int32) (z : V) (g : VL) (Post : Int32 → V → VL → Prop) : Prop :=
  wp_X2_in i1.toInt64 (0 : Int64) (999999999 : Int64) (fun r1 =>
  (r1 = 0 →
    wp_X2_wages_L24 Post  z g
  ) ∧ (¬ r1 = 0 →
    wp_X2_in i2.toInt64 (0 : Int64) (8 : Int64) (fun r2 =>
    (r2 = 0 →
      wp_X2_wages_L24 Post  z g
    ) ∧ (¬ r2 = 0 →
      ∃ n, wp_X2_wages_L33 Post  n i2 i1 (8 : Int32) z g
    )
    )
  )
  )
def wp_X2_lowest_L47  (Post : Int64 → Prop)  (ls0 : Int64) : Prop :=
  Post ls0
def wp_X2_lowest_S6  (Post : Int64 → Prop)  (K6 : Int64 → Int64 → Int32 → Int64 → Int64 → Prop) (l0 : Int64) (l2 : Int64) (i4 : Int32) (l5 : Int64) (l7 : Int64) : Prop :=
  ((lg_cmp l7 (0 : Int64)) = 0 →
    (i4 = 0 →
      ¬ l5 = 0 ∧
      wp_X2_lowest_L47 Post  (l0 / l5)
    ) ∧ (¬ i4 = 0 →
      ¬ l5 = 0 ∧
      wp_X2_lowest_L47 Post  (l2 / l5)
    )
  ) ∧ (¬ (lg_cmp l7 (0 : Int64)) = 0 →
    ¬ l7 = 0 ∧
    K6 l0 l2 i4 l7 (l5 - l5 / l7 * l7)
  )
def wp_X2_lowest_L6  (Post : Int64 → Prop)  : Nat → Int64 → Int64 → Int32 → Int64 → Int64 → Prop
  | 0 => fun _ _ _ _ _ => False
  | n + 1 => wp_X2_lowest_S6  Post  (wp_X2_lowest_L6  Post  n)
def wp_X2_lowest (l0 : Int64) (l2 : Int64) (i4 : Int32) (Post : Int64 → Prop) : Prop :=
  ∃ n, wp_X2_lowest_L6 Post  n l0 l2 i4 l2 l0
def wp_X2_change_L58  (Post : Int64 → V → VL → Prop)  (z : V) (g : VL) : Prop :=
  Post (-1000000000000000002 : Int64) z g
def wp_X2_change_L224  (Post : Int64 → V → VL → Prop) (K97 : Int32 → Int32 → Int32 → Int32 → Int32 → Int64 → Int32 → Int32 → V → VL → Prop) (K114 : Int32 → Int32 → Int32 → Int32 → Int32 → Int64 → Int32 → Int32 → Int32 → V → VL → Prop) (i1 : Int32) (i2 : Int32) (i3 : Int32) (i4 : Int32) (i5 : Int32) (l6 : Int64) (i8 : Int32) (i9 : Int32) (i10 : Int32) (ls0 : Int64) (is1 : Int32) (z : V) (g : VL) : Prop :=
  vp_in is1 70 ∧
  K114 i1 i2 i3 i4 i5 l6 i8 i9 (i10 + 1) z (upL2 g 1 is1.toNatClampNeg ls0)
def wp_X2_change_L193  (Post : Int64 → V → VL → Prop) (K97 : Int32 → Int32 → Int32 → Int32 → Int32 → Int64 → Int32 → Int32 → V → VL → Prop) (K114 : Int32 → Int32 → Int32 → Int32 → Int32 → Int64 → Int32 → Int32 → Int32 → V → VL → Prop) (i1 : Int32) (i2 : Int32) (i3 : Int32) (i4 : Int32) (i5 : Int32) (l6 : Int64) (i9 : Int32) (i10 : Int32) (l11 : Int64) (is0 : Int32) (z : V) (g : VL) : Prop :=
  ((lg_cmp (i10.toInt64 * l6) l11) < 0 →
    wp_X2_change_L224 Post K97 K114 i1 i2 i3 i4 i5 l6 is0 i9 i10 l11 i10 z g
  ) ∧ (¬ (lg_cmp (i10.toInt64 * l6) l11) < 0 →
    wp_X2_change_L224 Post K97 K114 i1 i2 i3 i4 i5 l6 is0 i9 i10 (i10.toInt64 * l6) i10 z g
  )
def wp_X2_change_L144  (Post : Int64 → V → VL → Prop) (K97 : Int32 → Int32 → Int32 → Int32 → Int32 → Int64 → Int32 → Int32 → V → VL → Prop) (K114 : Int32 → Int32 → Int32 → Int32 → Int32 → Int64 → Int32 → Int32 → Int32 → V → VL → Prop) (i1 : Int32) (i2 : Int32) (i3 : Int32) (i4 : Int32) (i5 : Int32) (l6 : Int64) (i8 : Int32) (i9 : Int32) (i10 : Int32) (is0 : Int32) (ls2 : Int64) (z : V) (g : VL) : Prop :=
  vp_in is0 70 ∧
  vp_in (i10 + (1 : Int32)) 70 ∧
  ∀ n1 : Int64, n1 = ((ls2 * (g 0 is0.toNatClampNeg)) + (((10 : Int64) - i3.toInt64) * (g 0 (i10 + (1 : Int32)).toNatClampNeg))) →
  (i10 = i1 →
    ((lg_cmp (i10.toInt64 * l6) n1) < 0 →
      wp_X2_change_L193 Post K97 K114 i1 i2 i3 i4 i5 l6 i9 i10 n1 (0 : Int32) z g
    ) ∧ (¬ (lg_cmp (i10.toInt64 * l6) n1) < 0 →
      wp_X2_change_L193 Post K97 K114 i1 i2 i3 i4 i5 l6 i9 i10 n1 (1 : Int32) z g
    )
  ) ∧ (¬ i10 = i1 →
    wp_X2_change_L193 Post K97 K114 i1 i2 i3 i4 i5 l6 i9 i10 n1 i8 z g
  )
def wp_X2_change_S234  (Post : Int64 → V → VL → Prop) (K97 : Int32 → Int32 → Int32 → Int32 → Int32 → Int64 → Int32 → Int32 → V → VL → Prop) (K234 : Int32 → Int32 → Int32 → Int32 → Int32 → Int64 → Int32 → Int32 → Int32 → V → VL → Prop) (i1 : Int32) (i2 : Int32) (i3 : Int32) (i4 : Int32) (i5 : Int32) (l6 : Int64) (i8 : Int32) (i9 : Int32) (i10 : Int32) (z : V) (g : VL) : Prop :=
  (((69 : Int32) - i9) ≤ i10 →
    K97 i1 i2 i3 i4 i5 l6 i8 (i9 + 1) z g
  ) ∧ (¬ ((69 : Int32) - i9) ≤ i10 →
    vp_in i10 70 ∧
    vp_in i10 70 ∧
    K234 i1 i2 i3 i4 i5 l6 i8 i9 (i10 + 1) z (upL2 g 0 i10.toNatClampNeg (g 1 i10.toNatClampNeg))
  )
def wp_X2_change_L234  (Post : Int64 → V → VL → Prop) (K97 : Int32 → Int32 → Int32 → Int32 → Int32 → Int64 → Int32 → Int32 → V → VL → Prop) : Nat → Int32 → Int32 → Int32 → Int32 → Int32 → Int64 → Int32 → Int32 → Int32 → V → VL → Prop
  | 0 => fun _ _ _ _ _ _ _ _ _ _ _ => False
  | n + 1 => wp_X2_change_S234  Post K97 (wp_X2_change_L234  Post K97 n)
def wp_X2_change_S114  (Post : Int64 → V → VL → Prop) (K97 : Int32 → Int32 → Int32 → Int32 → Int32 → Int64 → Int32 → Int32 → V → VL → Prop) (K114 : Int32 → Int32 → Int32 → Int32 → Int32 → Int64 → Int32 → Int32 → Int32 → V → VL → Prop) (i1 : Int32) (i2 : Int32) (i3 : Int32) (i4 : Int32) (i5 : Int32) (l6 : Int64) (i8 : Int32) (i9 : Int32) (i10 : Int32) (z : V) (g : VL) : Prop :=
  (((69 : Int32) - i9) ≤ i10 →
    ∃ n, wp_X2_change_L234 Post K97 n i1 i2 i3 i4 i5 l6 i8 i9 (0 : Int32) z g
  ) ∧ (¬ ((69 : Int32) - i9) ≤ i10 →
    (i10 ≤ (3 : Int32) →
      wp_X2_change_L144 Post K97 K114 i1 i2 i3 i4 i5 l6 i8 i9 i10 (0 : Int32) i3.toInt64 z g
    ) ∧ (¬ i10 ≤ (3 : Int32) →
      wp_X2_change_L144 Post K97 K114 i1 i2 i3 i4 i5 l6 i8 i9 i10 (i10 - (3 : Int32)) i3.toInt64 z g
    )
  )
def wp_X2_change_L114  (Post : Int64 → V → VL → Prop) (K97 : Int32 → Int32 → Int32 → Int32 → Int32 → Int64 → Int32 → Int32 → V → VL → Prop) : Nat → Int32 → Int32 → Int32 → Int32 → Int32 → Int64 → Int32 → Int32 → Int32 → V → VL → Prop
  | 0 => fun _ _ _ _ _ _ _ _ _ _ _ => False
  | n + 1 => wp_X2_change_S114  Post K97 (wp_X2_change_L114  Post K97 n)
def wp_X2_change_L302  (Post : Int64 → V → VL → Prop)  (ls0 : Int64) (z : V) (g : VL) : Prop :=
  Post ls0 z g
def wp_X2_change_S97  (Post : Int64 → V → VL → Prop)  (K97 : Int32 → Int32 → Int32 → Int32 → Int32 → Int64 → Int32 → Int32 → V → VL → Prop) (i1 : Int32) (i2 : Int32) (i3 : Int32) (i4 : Int32) (i5 : Int32) (l6 : Int64) (i8 : Int32) (i9 : Int32) (z : V) (g : VL) : Prop :=
  (i2 < i9 →
    (i4 = (1 : Int32) →
      (i8 = 0 →
        wp_X2_change_L302 Post  (0 : Int64) z g
      ) ∧ (¬ i8 = 0 →
        wp_X2_change_L302 Post  (1 : Int64) z g
      )
    ) ∧ (¬ i4 = (1 : Int32) →
      vp_in i1 70 ∧
      wp_X2_lowest (g 0 i1.toNatClampNeg) l6 i5 (fun r1 =>
      wp_X2_change_L302 Post  r1 z g
      )
    )
  ) ∧ (¬ i2 < i9 →
    ∃ n, wp_X2_change_L114 Post K97 n i1 i2 i3 i4 i5 (l6 * (10 : Int64)) i8 i9 (0 : Int32) z g
  )
def wp_X2_change_L97  (Post : Int64 → V → VL → Prop)  : Nat → Int32 → Int32 → Int32 → Int32 → Int32 → Int64 → Int32 → Int32 → V → VL → Prop
  | 0 => fun _ _ _ _ _ _ _ _ _ _ => False
  | n + 1 => wp_X2_change_S97  Post  (wp_X2_change_L97  Post  n)
def wp_X2_change_S65  (Post : Int64 → V → VL → Prop)  (K65 : Int32 → Int32 → Int32 → Int32 → Int32 → Int32 → V → VL → Prop) (i1 : Int32) (i2 : Int32) (i3 : Int32) (i4 : Int32) (i5 : Int32) (i6 : Int32) (z : V) (g : VL) : Prop :=
  ((70 : Int32) ≤ i6 →
    ∃ n, wp_X2_change_L97 Post  n i1 i2 i3 i4 i5 (1 : Int64) (1 : Int32) (1 : Int32) z g
  ) ∧ (¬ (70 : Int32) ≤ i6 →
    vp_in i6 70 ∧
    K65 i1 i2 i3 i4 i5 (i6 + 1) z (upL2 g 0 i6.toNatClampNeg i6.toInt64)
  )
def wp_X2_change_L65  (Post : Int64 → V → VL → Prop)  : Nat → Int32 → Int32 → Int32 → Int32 → Int32 → Int32 → V → VL → Prop
  | 0 => fun _ _ _ _ _ _ _ _ => False
  | n + 1 => wp_X2_change_S65  Post  (wp_X2_change_L65  Post  n)
def wp_X2_change (i1 : Int32) (i2 : Int32) (i3 : Int32) (i4 : Int32) (i5 : Int32) (z : V) (g : VL) (Post : Int64 → V → VL → Prop) : Prop :=
  wp_X2_in i1.toInt64 (0 : Int64) (60 : Int64) (fun r1 =>
  (r1 = 0 →
    wp_X2_change_L58 Post  z g
  ) ∧ (¬ r1 = 0 →
    wp_X2_in i2.toInt64 (0 : Int64) (8 : Int64) (fun r2 =>
    (r2 = 0 →
      wp_X2_change_L58 Post  z g
    ) ∧ (¬ r2 = 0 →
      wp_X2_in i3.toInt64 (0 : Int64) (10 : Int64) (fun r3 =>
      (r3 = 0 →
        wp_X2_change_L58 Post  z g
      ) ∧ (¬ r3 = 0 →
        wp_X2_in i4.toInt64 (0 : Int64) (1 : Int64) (fun r4 =>
        (r4 = 0 →
          wp_X2_change_L58 Post  z g
        ) ∧ (¬ r4 = 0 →
          wp_X2_in i5.toInt64 (0 : Int64) (1 : Int64) (fun r5 =>
          (r5 = 0 →
            wp_X2_change_L58 Post  z g
          ) ∧ (¬ r5 = 0 →
            ∃ n, wp_X2_change_L65 Post  n i1 i2 i3 i4 i5 (0 : Int32) z g
          )
          )
        )
        )
      )
      )
    )
    )
  )
  )
def wp_X2_chooseOf_L22  (Post : Int64 → V → VL → Prop) (K2 : Int32 → Int32 → Int32 → V → VL → Prop) (i1 : Int32) (i2 : Int32) (i3 : Int32) (ls0 : Int64) (is1 : Int32) (z : V) (g : VL) : Prop :=
  vp_in is1 31 ∧
  K2 i1 i2 (i3 + 1) z (upL2 g 2 is1.toNatClampNeg ls0)
def wp_X2_chooseOf_S40  (Post : Int64 → V → VL → Prop) (K31 : Int32 → Int32 → Int32 → V → VL → Prop) (K40 : Int32 → Int32 → Int32 → Int32 → V → VL → Prop) (i1 : Int32) (i2 : Int32) (i3 : Int32) (i4 : Int32) (z : V) (g : VL) : Prop :=
  (i4 ≤ 0 →
    K31 i1 i2 (i3 + 1) z g
  ) ∧ (¬ i4 ≤ 0 →
    vp_in i4 31 ∧
    vp_in (i4 - (1 : Int32)) 31 ∧
    vp_in i4 31 ∧
    K40 i1 i2 i3 (i4 + (-1)) z (upL2 g 2 i4.toNatClampNeg ((g 2 i4.toNatClampNeg) + (g 2 (i4 - (1 : Int32)).toNatClampNeg)))
  )
def wp_X2_chooseOf_L40  (Post : Int64 → V → VL → Prop) (K31 : Int32 → Int32 → Int32 → V → VL → Prop) : Nat → Int32 → Int32 → Int32 → Int32 → V → VL → Prop
  | 0 => fun _ _ _ _ _ _ => False
  | n + 1 => wp_X2_chooseOf_S40  Post K31 (wp_X2_chooseOf_L40  Post K31 n)
def wp_X2_chooseOf_S31  (Post : Int64 → V → VL → Prop)  (K31 : Int32 → Int32 → Int32 → V → VL → Prop) (i1 : Int32) (i2 : Int32) (i3 : Int32) (z : V) (g : VL) : Prop :=
  (i1 ≤ i3 →
    vp_in i2 31 ∧
    Post (g 2 i2.toNatClampNeg) z g
  ) ∧ (¬ i1 ≤ i3 →
    ∃ n, wp_X2_chooseOf_L40 Post K31 n i1 i2 i3 (30 : Int32) z g
  )
def wp_X2_chooseOf_L31  (Post : Int64 → V → VL → Prop)  : Nat → Int32 → Int32 → Int32 → V → VL → Prop
  | 0 => fun _ _ _ _ _ => False
  | n + 1 => wp_X2_chooseOf_S31  Post  (wp_X2_chooseOf_L31  Post  n)
def wp_X2_chooseOf_S2  (Post : Int64 → V → VL → Prop)  (K2 : Int32 → Int32 → Int32 → V → VL → Prop) (i1 : Int32) (i2 : Int32) (i3 : Int32) (z : V) (g : VL) : Prop :=
  ((30 : Int32) < i3 →
    ∃ n, wp_X2_chooseOf_L31 Post  n i1 i2 (0 : Int32) z g
  ) ∧ (¬ (30 : Int32) < i3 →
    (i3 = 0 →
      wp_X2_chooseOf_L22 Post K2 i1 i2 i3 (1 : Int64) i3 z g
    ) ∧ (¬ i3 = 0 →
      wp_X2_chooseOf_L22 Post K2 i1 i2 i3 (0 : Int64) i3 z g
    )
  )
def wp_X2_chooseOf_L2  (Post : Int64 → V → VL → Prop)  : Nat → Int32 → Int32 → Int32 → V → VL → Prop
  | 0 => fun _ _ _ _ _ => False
  | n + 1 => wp_X2_chooseOf_S2  Post  (wp_X2_chooseOf_L2  Post  n)
def wp_X2_chooseOf (i1 : Int32) (i2 : Int32) (z : V) (g : VL) (Post : Int64 → V → VL → Prop) : Prop :=
  ∃ n, wp_X2_chooseOf_L2 Post  n i1 i2 (0 : Int32) z g
def wp_X2_sample_L57  (Post : Int64 → V → VL → Prop)  (z : V) (g : VL) : Prop :=
  Post (-1000000000000000002 : Int64) z g
def wp_X2_sample (i1 : Int32) (i2 : Int32) (i3 : Int32) (i4 : Int32) (i5 : Int32) (z : V) (g : VL) (Post : Int64 → V → VL → Prop) : Prop :=
  wp_X2_in i1.toInt64 (1 : Int64) (30 : Int64) (fun r1 =>
  (r1 = 0 →
    wp_X2_sample_L57 Post  z g
  ) ∧ (¬ r1 = 0 →
    wp_X2_in i2.toInt64 (0 : Int64) i1.toInt64 (fun r2 =>
    (r2 = 0 →
      wp_X2_sample_L57 Post  z g
    ) ∧ (¬ r2 = 0 →
      wp_X2_in i3.toInt64 (0 : Int64) i1.toInt64 (fun r3 =>
      (r3 = 0 →
        wp_X2_sample_L57 Post  z g
      ) ∧ (¬ r3 = 0 →
        wp_X2_in i4.toInt64 (0 : Int64) i3.toInt64 (fun r4 =>
        (r4 = 0 →
          wp_X2_sample_L57 Post  z g
        ) ∧ (¬ r4 = 0 →
          wp_X2_in i5.toInt64 (0 : Int64) (1 : Int64) (fun r5 =>
          (r5 = 0 →
            wp_X2_sample_L57 Post  z g
          ) ∧ (¬ r5 = 0 →
            wp_X2_chooseOf i2 i4 z g (fun r6 z_6 g_6 =>
            wp_X2_chooseOf (i1 - i2) (i3 - i4) z_6 g_6 (fun r7 z_7 g_7 =>
            wp_X2_chooseOf i1 i3 z_7 g_7 (fun r8 z_8 g_8 =>
            wp_X2_lowest (r6 * r7) r8 i5 (fun r9 =>
            Post r9 z_8 g_8
            )
            )
            )
            )
          )
          )
        )
        )
      )
      )
    )
    )
  )
  )
def wp_X2_seen_L34  (Post : Int32 → V → VL → Prop)  (z : V) (g : VL) : Prop :=
  Post (-2 : Int32) z g
def wp_X2_seen (i1 : Int32) (i2 : Int32) (i3 : Int32) (z : V) (g : VL) (Post : Int32 → V → VL → Prop) : Prop :=
  wp_X2_in i1.toInt64 (0 : Int64) (255 : Int64) (fun r1 =>
  (r1 = 0 →
    wp_X2_seen_L34 Post  z g
  ) ∧ (¬ r1 = 0 →
    wp_X2_in i2.toInt64 (0 : Int64) (8 : Int64) (fun r2 =>
    (r2 = 0 →
      wp_X2_seen_L34 Post  z g
    ) ∧ (¬ r2 = 0 →
      wp_X2_in i3.toInt64 (0 : Int64) (1 : Int64) (fun r3 =>
      (r3 = 0 →
        wp_X2_seen_L34 Post  z g
      ) ∧ (¬ r3 = 0 →
        ((z 19 4) = (8 : Int32) →
          Post (-4 : Int32) z g
        ) ∧ (¬ (z 19 4) = (8 : Int32) →
          vp_in (z 19 4) 8 ∧
          vp_in (z 19 4) 8 ∧
          vp_in (z 19 4) 8 ∧
          Post ((z 19 4) + (1 : Int32)) (up2 (up2 (up2 (up2 z 5 (z 19 4).toNatClampNeg i1) 6 (z 19 4).toNatClampNeg i2) 7 (z 19 4).toNatClampNeg i3) 19 4 ((z 19 4) + (1 : Int32))) g
        )
      )
      )
    )
    )
  )
  )
def wp_X2_forget (z : V) (g : VL) (Post : Int32 → V → VL → Prop) : Prop :=
  Post (z 19 4) (up2 z 19 4 (0 : Int32)) g
def wp_X2_bitsOf_S4  (Post : Int32 → Prop)  (K4 : Int32 → Int32 → Prop) (i1 : Int32) (i2 : Int32) : Prop :=
  (i2 = 0 →
    Post i1
  ) ∧ (¬ i2 = 0 →
    K4 (i1 + 1) (i2 &&& (i2 - (1 : Int32)))
  )
def wp_X2_bitsOf_L4  (Post : Int32 → Prop)  : Nat → Int32 → Int32 → Prop
  | 0 => fun _ _ => False
  | n + 1 => wp_X2_bitsOf_S4  Post  (wp_X2_bitsOf_L4  Post  n)
def wp_X2_bitsOf (i0 : Int32) (Post : Int32 → Prop) : Prop :=
  ∃ n, wp_X2_bitsOf_L4 Post  n (0 : Int32) i0
def wp_X2_fits_L88  (Post : Int32 → V → VL → Prop) (K17 : Int32 → Int32 → Int32 → V → VL → Prop) (i2 : Int32) (i4 : Int32) (is0 : Int32) (z : V) (g : VL) : Prop :=
  K17 i2 is0 (i4 + 1) z g
def wp_X2_fits_L83  (Post : Int32 → V → VL → Prop) (K17 : Int32 → Int32 → Int32 → V → VL → Prop) (i2 : Int32) (i4 : Int32) (z : V) (g : VL) : Prop :=
  wp_X2_fits_L88 Post K17 i2 i4 (1 : Int32) z g
def wp_X2_fits_L87  (Post : Int32 → V → VL → Prop) (K17 : Int32 → Int32 → Int32 → V → VL → Prop) (i2 : Int32) (i4 : Int32) (z : V) (g : VL) : Prop :=
  wp_X2_fits_L88 Post K17 i2 i4 (0 : Int32) z g
def wp_X2_fits_S17  (Post : Int32 → V → VL → Prop)  (K17 : Int32 → Int32 → Int32 → V → VL → Prop) (i2 : Int32) (i3 : Int32) (i4 : Int32) (z : V) (g : VL) : Prop :=
  ((z 19 4) ≤ i4 →
    narrow .boolean (.int i3) = .int i3 ∧
    Post i3 z g
  ) ∧ (¬ (z 19 4) ≤ i4 →
    vp_in i4 8 ∧
    wp_X2_bitsOf ((z 5 i4.toNatClampNeg) &&& (i2 ^^^ (-1 : Int32))) (fun r1 =>
    (i3 = 0 →
      wp_X2_fits_L87 Post K17 i2 i4 z g
    ) ∧ (¬ i3 = 0 →
      vp_in i4 8 ∧
      ((z 7 i4.toNatClampNeg) = 0 →
        vp_in i4 8 ∧
        (r1 = (z 6 i4.toNatClampNeg) →
          wp_X2_fits_L83 Post K17 i2 i4 z g
        ) ∧ (¬ r1 = (z 6 i4.toNatClampNeg) →
          wp_X2_fits_L87 Post K17 i2 i4 z g
        )
      ) ∧ (¬ (z 7 i4.toNatClampNeg) = 0 →
        vp_in i4 8 ∧
        (r1 < (z 6 i4.toNatClampNeg) →
          wp_X2_fits_L87 Post K17 i2 i4 z g
        ) ∧ (¬ r1 < (z 6 i4.toNatClampNeg) →
          wp_X2_fits_L83 Post K17 i2 i4 z g
        )
      )
    )
    )
  )
def wp_X2_fits_L17  (Post : Int32 → V → VL → Prop)  : Nat → Int32 → Int32 → Int32 → V → VL → Prop
  | 0 => fun _ _ _ _ _ => False
  | n + 1 => wp_X2_fits_S17  Post  (wp_X2_fits_L17  Post  n)
def wp_X2_fits_L13  (Post : Int32 → V → VL → Prop)  (i2 : Int32) (is0 : Int32) (z : V) (g : VL) : Prop :=
  ∃ n, wp_X2_fits_L17 Post  n i2 is0 (0 : Int32) z g
def wp_X2_fits (i1 : Int32) (i2 : Int32) (z : V) (g : VL) (Post : Int32 → V → VL → Prop) : Prop :=
  wp_X2_bitsOf i2 (fun r1 =>
  (i1 < r1 →
    wp_X2_fits_L13 Post  i2 (0 : Int32) z g
  ) ∧ (¬ i1 < r1 →
    wp_X2_fits_L13 Post  i2 (1 : Int32) z g
  )
  )
def wp_X2_clerks_L49  (Post : Int32 → V → VL → Prop) (K20 : Int32 → Int32 → Int32 → Int32 → V → VL → Prop) (i1 : Int32) (i2 : Int32) (i3 : Int32) (i4 : Int32) (z : V) (g : VL) : Prop :=
  K20 i1 i2 i3 (i4 + 1) z g
def wp_X2_clerks_L66  (Post : Int32 → V → VL → Prop)  (is0 : Int32) (z : V) (g : VL) : Prop :=
  Post is0 z g
def wp_X2_clerks_S20  (Post : Int32 → V → VL → Prop)  (K20 : Int32 → Int32 → Int32 → Int32 → V → VL → Prop) (i1 : Int32) (i2 : Int32) (i3 : Int32) (i4 : Int32) (z : V) (g : VL) : Prop :=
  ((256 : Int32) ≤ i4 →
    (i2 = (-1 : Int32) →
      wp_X2_clerks_L66 Post  i3 z g
    ) ∧ (¬ i2 = (-1 : Int32) →
      wp_X2_clerks_L66 Post  (-6 : Int32) z g
    )
  ) ∧ (¬ (256 : Int32) ≤ i4 →
    wp_X2_fits i1 i4 z g (fun r1 z_1 g_1 =>
    (r1 = 0 →
      wp_X2_clerks_L49 Post K20 i1 i2 i3 i4 z_1 g_1
    ) ∧ (¬ r1 = 0 →
      (i3 = i2 →
        Post i4 z_1 g_1
      ) ∧ (¬ i3 = i2 →
        wp_X2_clerks_L49 Post K20 i1 i2 (i3 + 1) i4 z_1 g_1
      )
    )
    )
  )
def wp_X2_clerks_L20  (Post : Int32 → V → VL → Prop)  : Nat → Int32 → Int32 → Int32 → Int32 → V → VL → Prop
  | 0 => fun _ _ _ _ _ _ => False
  | n + 1 => wp_X2_clerks_S20  Post  (wp_X2_clerks_L20  Post  n)
def wp_X2_clerks (i1 : Int32) (i2 : Int32) (z : V) (g : VL) (Post : Int32 → V → VL → Prop) : Prop :=
  wp_X2_in i1.toInt64 (0 : Int64) (3 : Int64) (fun r1 =>
  (r1 = 0 →
    Post (-2 : Int32) z g
  ) ∧ (¬ r1 = 0 →
    ∃ n, wp_X2_clerks_L20 Post  n i1 i2 (0 : Int32) (0 : Int32) z g
  )
  )
def wp_X2_mostLeft_L61  (Post : Int32 → V → VL → Prop) (K8 : Int32 → Int32 → Int32 → Int32 → Int32 → V → VL → Prop) (i1 : Int32) (i2 : Int32) (i4 : Int32) (i5 : Int32) (is0 : Int32) (is1 : Int32) (z : V) (g : VL) : Prop :=
  K8 i1 i2 (is1 + is0) i4 (i5 + 1) z g
def wp_X2_mostLeft_L60  (Post : Int32 → V → VL → Prop) (K8 : Int32 → Int32 → Int32 → Int32 → Int32 → V → VL → Prop) (i1 : Int32) (i2 : Int32) (i4 : Int32) (i5 : Int32) (is0 : Int32) (z : V) (g : VL) : Prop :=
  wp_X2_mostLeft_L61 Post K8 i1 i2 i4 i5 (0 : Int32) is0 z g
def wp_X2_mostLeft_L37  (Post : Int32 → V → VL → Prop) (K8 : Int32 → Int32 → Int32 → Int32 → Int32 → V → VL → Prop) (i1 : Int32) (i2 : Int32) (i3 : Int32) (i5 : Int32) (i6 : Int32) (is0 : Int32) (is1 : Int32) (z : V) (g : VL) : Prop :=
  (i6 = 0 →
    wp_X2_mostLeft_L60 Post K8 i1 i2 (is1 + is0) i5 i3 z g
  ) ∧ (¬ i6 = 0 →
    (((i5 >>> (i2 &&& 31)) &&& (1 : Int32)) = (1 : Int32) →
      wp_X2_mostLeft_L61 Post K8 i1 i2 (is1 + is0) i5 (1 : Int32) i3 z g
    ) ∧ (¬ ((i5 >>> (i2 &&& 31)) &&& (1 : Int32)) = (1 : Int32) →
      wp_X2_mostLeft_L60 Post K8 i1 i2 (is1 + is0) i5 i3 z g
    )
  )
def wp_X2_mostLeft_L85  (Post : Int32 → V → VL → Prop)  (is0 : Int32) (z : V) (g : VL) : Prop :=
  Post is0 z g
def wp_X2_mostLeft_S8  (Post : Int32 → V → VL → Prop)  (K8 : Int32 → Int32 → Int32 → Int32 → Int32 → V → VL → Prop) (i1 : Int32) (i2 : Int32) (i3 : Int32) (i4 : Int32) (i5 : Int32) (z : V) (g : VL) : Prop :=
  ((256 : Int32) ≤ i5 →
    (i3 ≤ (i4 - i3) →
      wp_X2_mostLeft_L85 Post  (i4 - i3) z g
    ) ∧ (¬ i3 ≤ (i4 - i3) →
      wp_X2_mostLeft_L85 Post  i3 z g
    )
  ) ∧ (¬ (256 : Int32) ≤ i5 →
    wp_X2_fits i1 i5 z g (fun r1 z_1 g_1 =>
    (r1 = 0 →
      wp_X2_mostLeft_L37 Post K8 i1 i2 i3 i5 r1 (0 : Int32) i4 z_1 g_1
    ) ∧ (¬ r1 = 0 →
      wp_X2_mostLeft_L37 Post K8 i1 i2 i3 i5 r1 (1 : Int32) i4 z_1 g_1
    )
    )
  )
def wp_X2_mostLeft_L8  (Post : Int32 → V → VL → Prop)  : Nat → Int32 → Int32 → Int32 → Int32 → Int32 → V → VL → Prop
  | 0 => fun _ _ _ _ _ _ _ => False
  | n + 1 => wp_X2_mostLeft_S8  Post  (wp_X2_mostLeft_L8  Post  n)
def wp_X2_mostLeft (i1 : Int32) (i2 : Int32) (z : V) (g : VL) (Post : Int32 → V → VL → Prop) : Prop :=
  ∃ n, wp_X2_mostLeft_L8 Post  n i1 i2 (0 : Int32) (0 : Int32) (0 : Int32) z g
def wp_X2_count_L22  (Post : Int32 → V → VL → Prop)  (z : V) (g : VL) : Prop :=
  Post (-2 : Int32) z g
def wp_X2_count_L82  (Post : Int32 → V → VL → Prop) (K38 : Int32 → Int32 → Int32 → Int32 → Int32 → V → VL → Prop) (i1 : Int32) (i2 : Int32) (i3 : Int32) (i5 : Int32) (is0 : Int32) (z : V) (g : VL) : Prop :=
  K38 i1 i2 i3 is0 (i5 + 1) z g
def wp_X2_count_L67  (Post : Int32 → V → VL → Prop) (K38 : Int32 → Int32 → Int32 → Int32 → Int32 → V → VL → Prop) (i1 : Int32) (i2 : Int32) (i4 : Int32) (i5 : Int32) (i6 : Int32) (is0 : Int32) (z : V) (g : VL) : Prop :=
  (i4 ≤ i6 →
    wp_X2_count_L82 Post K38 i1 i2 is0 i5 i4 z g
  ) ∧ (¬ i4 ≤ i6 →
    wp_X2_count_L82 Post K38 i1 i2 is0 i5 i6 z g
  )
def wp_X2_count_L110  (Post : Int32 → V → VL → Prop)  (is0 : Int32) (z : V) (g : VL) : Prop :=
  Post is0 z g
def wp_X2_count_S38  (Post : Int32 → V → VL → Prop)  (K38 : Int32 → Int32 → Int32 → Int32 → Int32 → V → VL → Prop) (i1 : Int32) (i2 : Int32) (i3 : Int32) (i4 : Int32) (i5 : Int32) (z : V) (g : VL) : Prop :=
  ((8 : Int32) ≤ i5 →
    (i4 = 0 →
      wp_X2_count_L110 Post  (-6 : Int32) z g
    ) ∧ (¬ i4 = 0 →
      (i2 = 0 →
        wp_X2_count_L110 Post  i3 z g
      ) ∧ (¬ i2 = 0 →
        wp_X2_count_L110 Post  i4 z g
      )
    )
  ) ∧ (¬ (8 : Int32) ≤ i5 →
    wp_X2_mostLeft i1 i5 z g (fun r1 z_1 g_1 =>
    (i4 ≤ r1 →
      wp_X2_count_L67 Post K38 i1 i2 i4 i5 r1 i3 z_1 g_1
    ) ∧ (¬ i4 ≤ r1 →
      wp_X2_count_L67 Post K38 i1 i2 i4 i5 r1 i5 z_1 g_1
    )
    )
  )
def wp_X2_count_L38  (Post : Int32 → V → VL → Prop)  : Nat → Int32 → Int32 → Int32 → Int32 → Int32 → V → VL → Prop
  | 0 => fun _ _ _ _ _ _ _ => False
  | n + 1 => wp_X2_count_S38  Post  (wp_X2_count_L38  Post  n)
def wp_X2_count (i1 : Int32) (i2 : Int32) (z : V) (g : VL) (Post : Int32 → V → VL → Prop) : Prop :=
  wp_X2_in i1.toInt64 (0 : Int64) (3 : Int64) (fun r1 =>
  (r1 = 0 →
    wp_X2_count_L22 Post  z g
  ) ∧ (¬ r1 = 0 →
    wp_X2_in i2.toInt64 (0 : Int64) (1 : Int64) (fun r2 =>
    (r2 = 0 →
      wp_X2_count_L22 Post  z g
    ) ∧ (¬ r2 = 0 →
      wp_X2_mostLeft i1 (0 : Int32) z g (fun r3 z_3 g_3 =>
      ∃ n, wp_X2_count_L38 Post  n i1 i2 (0 : Int32) r3 (1 : Int32) z_3 g_3
      )
    )
    )
  )
  )
def wp_X2_actBy_L48  (Post : Int32 → Prop)   : Prop :=
  Post (2 : Int32)
def wp_X2_actBy (i0 : Int32) (Post : Int32 → Prop) : Prop :=
  (i0 = 0 →
    Post (0 : Int32)
  ) ∧ (¬ i0 = 0 → (
  (i0 = 1 →
    Post (5 : Int32)
  ) ∧ (¬ i0 = 1 → (
  (i0 = 2 →
    wp_X2_actBy_L48 Post  
  ) ∧ (¬ i0 = 2 → (
  (i0 = 3 →
    wp_X2_actBy_L48 Post  
  ) ∧ (¬ i0 = 3 → (
  (i0 = 4 →
    Post (3 : Int32)
  ) ∧ (¬ i0 = 4 → (
  (i0 = 5 →
    Post (4 : Int32)
  ) ∧ (¬ i0 = 5 → (
  (i0 = 6 →
    Post (1 : Int32)
  ) ∧ (¬ i0 = 6 → (
    Post (6 : Int32)
  ))))))))))))))
def wp_X2_muchBy (i0 : Int32) (i1 : Int32) (Post : Int32 → Prop) : Prop :=
  (i0 = 2 →
    Post (i1 - i1 / (8 : Int32) * (8 : Int32))
  ) ∧ (¬ i0 = 2 → (
  (i0 = 3 →
    Post ((10 : Int32) * ((1 : Int32) + (i1 - i1 / (9 : Int32) * (9 : Int32))))
  ) ∧ (¬ i0 = 3 → (
  (i0 = 4 →
    Post (i1 - i1 / (6 : Int32) * (6 : Int32))
  ) ∧ (¬ i0 = 4 → (
    Post ((100 : Int32) * ((1 : Int32) + (i1 - i1 / (9 : Int32) * (9 : Int32))))
  ))))))
def wp_X2_year_L36  (Post : Int32 → V → VL → Prop)  (z : V) (g : VL) : Prop :=
  Post (-2 : Int32) z g
def wp_X2_year_L128  (Post : Int32 → V → VL → Prop) (K49 : Int32 → Int32 → Int32 → Int32 → V → VL → Prop) (i2 : Int32) (i3 : Int32) (i4 : Int32) (i5 : Int32) (z : V) (g : VL) : Prop :=
  K49 i2 i3 i4 (i5 + 1) z g
def wp_X2_year_L166  (Post : Int32 → V → VL → Prop)  (is0 : Int32) (z : V) (g : VL) : Prop :=
  wp_X2_back is0 z g (fun r1 z_1 g_1 =>
  Post r1 z_1 g_1
  )
def wp_X2_year_S49  (Post : Int32 → V → VL → Prop)  (K49 : Int32 → Int32 → Int32 → Int32 → V → VL → Prop) (i2 : Int32) (i3 : Int32) (i4 : Int32) (i5 : Int32) (z : V) (g : VL) : Prop :=
  (i2 ≤ i5 →
    (i3 = 0 →
      wp_X2_notes z g (fun r4 z_4 g_4 =>
      wp_X2_year_L166 Post  r4 z_4 g_4
      )
    ) ∧ (¬ i3 = 0 →
      (i3 = (1 : Int32) →
        wp_X2_rate z g (fun r3 z_3 g_3 =>
        wp_X2_year_L166 Post  r3 z_3 g_3
        )
      ) ∧ (¬ i3 = (1 : Int32) →
        wp_X2_lotsOf (-6 : Int32) z g (fun r1 z_1 g_1 =>
        wp_X2_bitsOf r1 (fun r2 =>
        wp_X2_year_L166 Post  r2 z_1 g_1
        )
        )
      )
    )
  ) ∧ (¬ i2 ≤ i5 →
    ∀ n5 : Int32, n5 = ((((75 : Int64) * i4.toInt64) + (74 : Int64)) - (((75 : Int64) * i4.toInt64) + (74 : Int64)) / (65537 : Int64) * (65537 : Int64)).toInt32 →
    wp_X2_actBy ((n5 / (6 : Int32)) - (n5 / (6 : Int32)) / (8 : Int32) * (8 : Int32)) (fun r6 =>
    wp_X2_muchBy r6 (n5 / (48 : Int32)) (fun r7 =>
    wp_X2_whyNot r6 (n5 - n5 / (6 : Int32) * (6 : Int32)) r7 z g (fun r8 z_8 g_8 =>
    (r8 = 0 →
      wp_X2_happen r6 (n5 - n5 / (6 : Int32) * (6 : Int32)) r7 z_8 g_8 (fun z_9 g_9 =>
      wp_X2_year_L128 Post K49 i2 i3 n5 i5 z_9 g_9
      )
    ) ∧ (¬ r8 = 0 →
      wp_X2_year_L128 Post K49 i2 i3 n5 i5 z_8 g_8
    )
    )
    )
    )
  )
def wp_X2_year_L49  (Post : Int32 → V → VL → Prop)  : Nat → Int32 → Int32 → Int32 → Int32 → V → VL → Prop
  | 0 => fun _ _ _ _ _ _ => False
  | n + 1 => wp_X2_year_S49  Post  (wp_X2_year_L49  Post  n)
def wp_X2_year (i1 : Int32) (i2 : Int32) (i3 : Int32) (z : V) (g : VL) (Post : Int32 → V → VL → Prop) : Prop :=
  wp_X2_in i1.toInt64 (0 : Int64) (9999 : Int64) (fun r1 =>
  (r1 = 0 →
    wp_X2_year_L36 Post  z g
  ) ∧ (¬ r1 = 0 →
    wp_X2_in i2.toInt64 (1 : Int64) (99 : Int64) (fun r2 =>
    (r2 = 0 →
      wp_X2_year_L36 Post  z g
    ) ∧ (¬ r2 = 0 →
      wp_X2_in i3.toInt64 (0 : Int64) (2 : Int64) (fun r3 =>
      (r3 = 0 →
        wp_X2_year_L36 Post  z g
      ) ∧ (¬ r3 = 0 →
        wp_X2_keepNow z g (fun z_4 g_4 =>
        ∃ n, wp_X2_year_L49 Post  n i2 i3 i1 (0 : Int32) z_4 g_4
        )
      )
      )
    )
    )
  )
  )
def wp_X2_pass_L20  (Post : Int32 → V → VL → Prop)  (is0 : Int32) (z : V) (g : VL) : Prop :=
  vp_in (z 19 10) 200 ∧
  Post is0 (up2 (up2 z 17 (z 19 10).toNatClampNeg is0) 19 10 ((z 19 10) + (1 : Int32))) g
def wp_X2_pass (i1 : Int32) (z : V) (g : VL) (Post : Int32 → V → VL → Prop) : Prop :=
  ((z 19 11) = 0 →
    vp_in (z 19 10) 200 ∧
    wp_X2_pass_L20 Post  (z 17 (z 19 10).toNatClampNeg) z g
  ) ∧ (¬ (z 19 11) = 0 →
    wp_X2_pass_L20 Post  i1 z g
  )
def wp_X2_passRow_S2  (Post : V → VL → Prop)  (K2 : Nat → Int32 → Int32 → V → VL → Prop) (rr : Nat) (i2 : Int32) (i3 : Int32) (z : V) (g : VL) : Prop :=
  (i2 ≤ i3 →
    Post z g
  ) ∧ (¬ i2 ≤ i3 →
    rr < 8 ∧
    vp_in i3 (mlen rr) ∧
    wp_X2_pass (z rr i3.toNatClampNeg) z g (fun r1 z_1 g_1 =>
    rr < 8 ∧
    vp_in i3 (mlen rr) ∧
    K2 rr i2 (i3 + 1) (up2 z_1 rr i3.toNatClampNeg r1) g_1
    )
  )
def wp_X2_passRow_L2  (Post : V → VL → Prop)  : Nat → Nat → Int32 → Int32 → V → VL → Prop
  | 0 => fun _ _ _ _ _ => False
  | n + 1 => wp_X2_passRow_S2  Post  (wp_X2_passRow_L2  Post  n)
def wp_X2_passRow (rr : Nat) (i2 : Int32) (z : V) (g : VL) (Post : V → VL → Prop) : Prop :=
  ∃ n, wp_X2_passRow_L2 Post  n rr i2 (0 : Int32) z g
def wp_X2_passAll (z : V) (g : VL) (Post : V → VL → Prop) : Prop :=
  wp_X2_pass (z 19 0) z g (fun r1 z_1 g_1 =>
  wp_X2_pass (z_1 19 1) (up2 z_1 19 0 r1) g_1 (fun r2 z_2 g_2 =>
  wp_X2_pass (z_2 19 2) (up2 z_2 19 1 r2) g_2 (fun r3 z_3 g_3 =>
  wp_X2_pass (z_3 19 3) (up2 z_3 19 2 r3) g_3 (fun r4 z_4 g_4 =>
  wp_X2_pass (z_4 19 4) (up2 z_4 19 3 r4) g_4 (fun r5 z_5 g_5 =>
  wp_X2_passRow 0 (6 : Int32) (up2 z_5 19 4 r5) g_5 (fun z_6 g_6 =>
  wp_X2_passRow 1 (6 : Int32) z_6 g_6 (fun z_7 g_7 =>
  wp_X2_passRow 2 (36 : Int32) z_7 g_7 (fun z_8 g_8 =>
  wp_X2_passRow 3 (8 : Int32) z_8 g_8 (fun z_9 g_9 =>
  wp_X2_passRow 4 (8 : Int32) z_9 g_9 (fun z_10 g_10 =>
  wp_X2_passRow 5 (8 : Int32) z_10 g_10 (fun z_11 g_11 =>
  wp_X2_passRow 6 (8 : Int32) z_11 g_11 (fun z_12 g_12 =>
  wp_X2_passRow 7 (8 : Int32) z_12 g_12 (fun z_13 g_13 =>
  Post z_13 g_13
  )
  )
  )
  )
  )
  )
  )
  )
  )
  )
  )
  )
  )
def wp_X2_image (i1 : Int32) (z : V) (g : VL) (Post : Int32 → V → VL → Prop) : Prop :=
  wp_X2_in i1.toInt64 (0 : Int64) (1 : Int64) (fun r1 =>
  (r1 = 0 →
    Post (-2 : Int32) z g
  ) ∧ (¬ r1 = 0 →
    wp_X2_passAll (up2 (up2 z 19 10 ((100 : Int32) * i1)) 19 11 (1 : Int32)) g (fun z_2 g_2 =>
    vp_in i1 2 ∧
    Post (1 : Int32) (up2 z_2 18 i1.toNatClampNeg (vp_nar .boolean (1 : Int32))) g_2
    )
  )
  )
def wp_X2_restore (i1 : Int32) (z : V) (g : VL) (Post : Int32 → V → VL → Prop) : Prop :=
  wp_X2_in i1.toInt64 (0 : Int64) (1 : Int64) (fun r1 =>
  (r1 = 0 →
    Post (-2 : Int32) z g
  ) ∧ (¬ r1 = 0 →
    vp_in i1 2 ∧
    ((z 18 i1.toNatClampNeg) = 0 →
      Post (-3 : Int32) z g
    ) ∧ (¬ (z 18 i1.toNatClampNeg) = 0 →
      wp_X2_passAll (up2 (up2 z 19 10 ((100 : Int32) * i1)) 19 11 (0 : Int32)) g (fun z_2 g_2 =>
      Post (1 : Int32) z_2 g_2
      )
    )
  )
  )
def wp_X2_toldOfOne_L16  (Post : Int32 → V → VL → Prop)  (is0 : Int32) (z : V) (g : VL) : Prop :=
  Post is0 z g
def wp_X2_toldOfOne (i1 : Int32) (i2 : Int32) (z : V) (g : VL) (Post : Int32 → V → VL → Prop) : Prop :=
  ((3 : Int32) ≤ i2 →
    wp_X2_toldOfOne_L16 Post  (-2 : Int32) z g
  ) ∧ (¬ (3 : Int32) ≤ i2 →
    wp_X2_ofOne i1 i2 z g (fun r1 z_1 g_1 =>
    wp_X2_toldOfOne_L16 Post  r1 z_1 g_1
    )
  )
def wp_X2_toldOfAll (i1 : Int32) (z : V) (g : VL) (Post : Int32 → V → VL → Prop) : Prop :=
  (i1 = 0 →
    Post (z 19 5) z g
  ) ∧ (¬ i1 = 0 → (
  (i1 = 1 →
    Post (z 19 0) z g
  ) ∧ (¬ i1 = 1 → (
  (i1 = 2 →
    Post (z 19 1) z g
  ) ∧ (¬ i1 = 2 → (
  (i1 = 3 →
    Post (z 19 2) z g
  ) ∧ (¬ i1 = 3 → (
  (i1 = 4 →
    Post (z 19 3) z g
  ) ∧ (¬ i1 = 4 → (
  (i1 = 5 →
    Post (z 19 4) z g
  ) ∧ (¬ i1 = 5 → (
  (i1 = 6 →
    wp_X2_notes z g (fun r2 z_2 g_2 =>
    Post r2 z_2 g_2
    )
  ) ∧ (¬ i1 = 6 → (
  (i1 = 7 →
    wp_X2_land z g (fun r3 z_3 g_3 =>
    Post r3 z_3 g_3
    )
  ) ∧ (¬ i1 = 7 → (
  (i1 = 8 →
    wp_X2_rate z g (fun r4 z_4 g_4 =>
    Post r4 z_4 g_4
    )
  ) ∧ (¬ i1 = 8 → (
    Post (-2 : Int32) z g
  ))))))))))))))))))
def wp_X2_told_L49  (Post : Int32 → V → VL → Prop)  (is0 : Int32) (z : V) (g : VL) : Prop :=
  Post is0 z g
def wp_X2_told_L107  (Post : Int32 → V → VL → Prop)  (is0 : Int32) (z : V) (g : VL) : Prop :=
  Post is0 z g
def wp_X2_told_L144  (Post : Int32 → V → VL → Prop)  (is0 : Int32) (z : V) (g : VL) : Prop :=
  Post is0 z g
def wp_X2_told (i1 : Int32) (z : V) (g : VL) (Post : Int32 → V → VL → Prop) : Prop :=
  wp_X2_in i1.toInt64 (200 : Int64) (259 : Int64) (fun r1 =>
  (r1 = 0 →
    wp_X2_in i1.toInt64 (100 : Int64) (179 : Int64) (fun r2 =>
    (r2 = 0 →
      wp_X2_in i1.toInt64 (10 : Int64) (69 : Int64) (fun r3 =>
      (r3 = 0 →
        wp_X2_toldOfAll i1 z g (fun r4 z_4 g_4 =>
        wp_X2_told_L144 Post  r4 z_4 g_4
        )
      ) ∧ (¬ r3 = 0 →
        wp_X2_toldOfOne ((i1 / (10 : Int32)) - (1 : Int32)) (i1 - i1 / (10 : Int32) * (10 : Int32)) z g (fun r5 z_5 g_5 =>
        wp_X2_told_L144 Post  r5 z_5 g_5
        )
      )
      )
    ) ∧ (¬ r2 = 0 →
      ((i1 - i1 / (10 : Int32) * (10 : Int32)) = 0 →
        vp_in ((i1 - (100 : Int32)) / (10 : Int32)) 8 ∧
        wp_X2_told_L107 Post  (z 3 ((i1 - (100 : Int32)) / (10 : Int32)).toNatClampNeg) z g
      ) ∧ (¬ (i1 - i1 / (10 : Int32) * (10 : Int32)) = 0 →
        ((i1 - i1 / (10 : Int32) * (10 : Int32)) = (1 : Int32) →
          vp_in ((i1 - (100 : Int32)) / (10 : Int32)) 8 ∧
          wp_X2_told_L107 Post  (z 4 ((i1 - (100 : Int32)) / (10 : Int32)).toNatClampNeg) z g
        ) ∧ (¬ (i1 - i1 / (10 : Int32) * (10 : Int32)) = (1 : Int32) →
          wp_X2_told_L107 Post  (-2 : Int32) z g
        )
      )
    )
    )
  ) ∧ (¬ r1 = 0 →
    ((6 : Int32) ≤ (i1 - i1 / (10 : Int32) * (10 : Int32)) →
      wp_X2_told_L49 Post  (-2 : Int32) z g
    ) ∧ (¬ (6 : Int32) ≤ (i1 - i1 / (10 : Int32) * (10 : Int32)) →
      vp_in (((6 : Int32) * ((i1 - (200 : Int32)) / (10 : Int32))) + (i1 - i1 / (10 : Int32) * (10 : Int32))) 36 ∧
      wp_X2_told_L49 Post  (z 2 (((6 : Int32) * ((i1 - (200 : Int32)) / (10 : Int32))) + (i1 - i1 / (10 : Int32) * (10 : Int32))).toNatClampNeg) z g
    )
  )
  )
def wp_L_law_L999 (n0 : Nat) (sc : Nat → Int32) (Post : Int32 → Prop) (K18 : Int32 → V → VL → V → V → V → V → V → VL → Prop) (i3 : Int32) (x : V) (y : VL) (v0 : V) (v1 : V) (v2 : V) (v3 : V) (z : V) (g : VL) : Prop :=
  K18 (i3 + 6) x y v0 v1 v2 v3 z g
def wp_L_law_S18 (n0 : Nat) (sc : Nat → Int32) (Post : Int32 → Prop)  (K18 : Int32 → V → VL → V → V → V → V → V → VL → Prop) (i3 : Int32) (x : V) (y : VL) (v0 : V) (v1 : V) (v2 : V) (v3 : V) (z : V) (g : VL) : Prop :=
  (((Int32.ofNat n0) - (6 : Int32)) < i3 →
    True
  ) ∧ (¬ ((Int32.ofNat n0) - (6 : Int32)) < i3 →
    vp_in i3 n0 ∧
    (((sc i3.toNatClampNeg) &&& (31 : Int32)) = 0 →
      vp_in (i3 + (1 : Int32)) n0 ∧
      vp_in (i3 + (2 : Int32)) n0 ∧
      vp_in (i3 + (3 : Int32)) n0 ∧
      wp_X0_one (sc (i3 + (1 : Int32)).toNatClampNeg) (sc (i3 + (2 : Int32)).toNatClampNeg) (sc (i3 + (3 : Int32)).toNatClampNeg) x y v0 v1 v2 v3 (fun r2 x_2 y_2 v0_2 v1_2 v2_2 v3_2 =>
      vp_in (i3 + (1 : Int32)) n0 ∧
      vp_in (i3 + (2 : Int32)) n0 ∧
      vp_in (i3 + (3 : Int32)) n0 ∧
      wp_X2_one (sc (i3 + (1 : Int32)).toNatClampNeg) (sc (i3 + (2 : Int32)).toNatClampNeg) (sc (i3 + (3 : Int32)).toNatClampNeg) z g (fun r3 z_3 g_3 =>
      (r2 = r3 →
        wp_L_law_L999 n0 sc Post K18 i3 x_2 y_2 v0_2 v1_2 v2_2 v3_2 z_3 g_3
      ) ∧ (¬ r2 = r3 →
        False
      )
      )
      )
    ) ∧ (¬ ((sc i3.toNatClampNeg) &&& (31 : Int32)) = 0 → (
    (((sc i3.toNatClampNeg) &&& (31 : Int32)) = 1 →
      vp_in (i3 + (1 : Int32)) n0 ∧
      vp_in (i3 + (2 : Int32)) n0 ∧
      vp_in (i3 + (3 : Int32)) n0 ∧
      wp_X0_owe (sc (i3 + (1 : Int32)).toNatClampNeg) (sc (i3 + (2 : Int32)).toNatClampNeg) (sc (i3 + (3 : Int32)).toNatClampNeg) x y v0 v1 v2 v3 (fun r4 x_4 y_4 v0_4 v1_4 v2_4 v3_4 =>
      vp_in (i3 + (1 : Int32)) n0 ∧
      vp_in (i3 + (2 : Int32)) n0 ∧
      vp_in (i3 + (3 : Int32)) n0 ∧
      wp_X2_owe (sc (i3 + (1 : Int32)).toNatClampNeg) (sc (i3 + (2 : Int32)).toNatClampNeg) (sc (i3 + (3 : Int32)).toNatClampNeg) z g (fun r5 z_5 g_5 =>
      (r4 = r5 →
        wp_L_law_L999 n0 sc Post K18 i3 x_4 y_4 v0_4 v1_4 v2_4 v3_4 z_5 g_5
      ) ∧ (¬ r4 = r5 →
        False
      )
      )
      )
    ) ∧ (¬ ((sc i3.toNatClampNeg) &&& (31 : Int32)) = 1 → (
    (((sc i3.toNatClampNeg) &&& (31 : Int32)) = 2 →
      vp_in (i3 + (1 : Int32)) n0 ∧
      vp_in (i3 + (2 : Int32)) n0 ∧
      vp_in (i3 + (3 : Int32)) n0 ∧
      wp_X0_lot (sc (i3 + (1 : Int32)).toNatClampNeg) (sc (i3 + (2 : Int32)).toNatClampNeg) (sc (i3 + (3 : Int32)).toNatClampNeg) x y v0 v1 v2 v3 (fun r6 x_6 y_6 v0_6 v1_6 v2_6 v3_6 =>
      vp_in (i3 + (1 : Int32)) n0 ∧
      vp_in (i3 + (2 : Int32)) n0 ∧
      vp_in (i3 + (3 : Int32)) n0 ∧
      wp_X2_lot (sc (i3 + (1 : Int32)).toNatClampNeg) (sc (i3 + (2 : Int32)).toNatClampNeg) (sc (i3 + (3 : Int32)).toNatClampNeg) z g (fun r7 z_7 g_7 =>
      (r6 = r7 →
        wp_L_law_L999 n0 sc Post K18 i3 x_6 y_6 v0_6 v1_6 v2_6 v3_6 z_7 g_7
      ) ∧ (¬ r6 = r7 →
        False
      )
      )
      )
    ) ∧ (¬ ((sc i3.toNatClampNeg) &&& (31 : Int32)) = 2 → (
    (((sc i3.toNatClampNeg) &&& (31 : Int32)) = 3 →
      vp_in (i3 + (1 : Int32)) n0 ∧
      vp_in (i3 + (2 : Int32)) n0 ∧
      wp_X0_set (sc (i3 + (1 : Int32)).toNatClampNeg) (sc (i3 + (2 : Int32)).toNatClampNeg) x y v0 v1 v2 v3 (fun r8 x_8 y_8 v0_8 v1_8 v2_8 v3_8 =>
      vp_in (i3 + (1 : Int32)) n0 ∧
      vp_in (i3 + (2 : Int32)) n0 ∧
      wp_X2_set (sc (i3 + (1 : Int32)).toNatClampNeg) (sc (i3 + (2 : Int32)).toNatClampNeg) z g (fun r9 z_9 g_9 =>
      (r8 = r9 →
        wp_L_law_L999 n0 sc Post K18 i3 x_8 y_8 v0_8 v1_8 v2_8 v3_8 z_9 g_9
      ) ∧ (¬ r8 = r9 →
        False
      )
      )
      )
    ) ∧ (¬ ((sc i3.toNatClampNeg) &&& (31 : Int32)) = 3 → (
    (((sc i3.toNatClampNeg) &&& (31 : Int32)) = 4 →
      vp_in (i3 + (1 : Int32)) n0 ∧
      wp_X0_say (sc (i3 + (1 : Int32)).toNatClampNeg) x y v0 v1 v2 v3 (fun r10 x_10 y_10 v0_10 v1_10 v2_10 v3_10 =>
      vp_in (i3 + (1 : Int32)) n0 ∧
      wp_X2_say (sc (i3 + (1 : Int32)).toNatClampNeg) z g (fun r11 z_11 g_11 =>
      (r10 = r11 →
        wp_L_law_L999 n0 sc Post K18 i3 x_10 y_10 v0_10 v1_10 v2_10 v3_10 z_11 g_11
      ) ∧ (¬ r10 = r11 →
        False
      )
      )
      )
    ) ∧ (¬ ((sc i3.toNatClampNeg) &&& (31 : Int32)) = 4 → (
    (((sc i3.toNatClampNeg) &&& (31 : Int32)) = 5 →
      wp_X0_wipe x y v0 v1 v2 v3 (fun r12 x_12 y_12 v0_12 v1_12 v2_12 v3_12 =>
      wp_X2_wipe z g (fun r13 z_13 g_13 =>
      (r12 = r13 →
        wp_L_law_L999 n0 sc Post K18 i3 x_12 y_12 v0_12 v1_12 v2_12 v3_12 z_13 g_13
      ) ∧ (¬ r12 = r13 →
        False
      )
      )
      )
    ) ∧ (¬ ((sc i3.toNatClampNeg) &&& (31 : Int32)) = 5 → (
    (((sc i3.toNatClampNeg) &&& (31 : Int32)) = 6 →
      wp_X0_fault x y v0 v1 v2 v3 (fun r14 x_14 y_14 v0_14 v1_14 v2_14 v3_14 =>
      wp_X2_fault z g (fun r15 z_15 g_15 =>
      (r14 = r15 →
        wp_L_law_L999 n0 sc Post K18 i3 x_14 y_14 v0_14 v1_14 v2_14 v3_14 z_15 g_15
      ) ∧ (¬ r14 = r15 →
        False
      )
      )
      )
    ) ∧ (¬ ((sc i3.toNatClampNeg) &&& (31 : Int32)) = 6 → (
    (((sc i3.toNatClampNeg) &&& (31 : Int32)) = 7 →
      vp_in (i3 + (1 : Int32)) n0 ∧
      wp_X0_judge (sc (i3 + (1 : Int32)).toNatClampNeg) x y v0 v1 v2 v3 (fun r16 x_16 y_16 v0_16 v1_16 v2_16 v3_16 =>
      vp_in (i3 + (1 : Int32)) n0 ∧
      wp_X2_judge (sc (i3 + (1 : Int32)).toNatClampNeg) z g (fun r17 z_17 g_17 =>
      (r16 = r17 →
        wp_L_law_L999 n0 sc Post K18 i3 x_16 y_16 v0_16 v1_16 v2_16 v3_16 z_17 g_17
      ) ∧ (¬ r16 = r17 →
        False
      )
      )
      )
    ) ∧ (¬ ((sc i3.toNatClampNeg) &&& (31 : Int32)) = 7 → (
    (((sc i3.toNatClampNeg) &&& (31 : Int32)) = 8 →
      vp_in (i3 + (1 : Int32)) n0 ∧
      vp_in (i3 + (2 : Int32)) n0 ∧
      wp_X0_behind (sc (i3 + (1 : Int32)).toNatClampNeg) (sc (i3 + (2 : Int32)).toNatClampNeg) x y v0 v1 v2 v3 (fun r18 x_18 y_18 v0_18 v1_18 v2_18 v3_18 =>
      vp_in (i3 + (1 : Int32)) n0 ∧
      vp_in (i3 + (2 : Int32)) n0 ∧
      wp_X2_behind (sc (i3 + (1 : Int32)).toNatClampNeg) (sc (i3 + (2 : Int32)).toNatClampNeg) z g (fun r19 z_19 g_19 =>
      (r18 = r19 →
        wp_L_law_L999 n0 sc Post K18 i3 x_18 y_18 v0_18 v1_18 v2_18 v3_18 z_19 g_19
      ) ∧ (¬ r18 = r19 →
        False
      )
      )
      )
    ) ∧ (¬ ((sc i3.toNatClampNeg) &&& (31 : Int32)) = 8 → (
    (((sc i3.toNatClampNeg) &&& (31 : Int32)) = 9 →
      vp_in (i3 + (1 : Int32)) n0 ∧
      wp_X0_total (sc (i3 + (1 : Int32)).toNatClampNeg) x y v0 v1 v2 v3 (fun r20 x_20 y_20 v0_20 v1_20 v2_20 v3_20 =>
      vp_in (i3 + (1 : Int32)) n0 ∧
      wp_X2_total (sc (i3 + (1 : Int32)).toNatClampNeg) z g (fun r21 z_21 g_21 =>
      (r20 = r21 →
        wp_L_law_L999 n0 sc Post K18 i3 x_20 y_20 v0_20 v1_20 v2_20 v3_20 z_21 g_21
      ) ∧ (¬ r20 = r21 →
        False
      )
      )
      )
    ) ∧ (¬ ((sc i3.toNatClampNeg) &&& (31 : Int32)) = 9 → (
    (((sc i3.toNatClampNeg) &&& (31 : Int32)) = 10 →
      vp_in (i3 + (1 : Int32)) n0 ∧
      wp_X0_fell (sc (i3 + (1 : Int32)).toNatClampNeg) x y v0 v1 v2 v3 (fun r22 x_22 y_22 v0_22 v1_22 v2_22 v3_22 =>
      vp_in (i3 + (1 : Int32)) n0 ∧
      wp_X2_fell (sc (i3 + (1 : Int32)).toNatClampNeg) z g (fun r23 z_23 g_23 =>
      (r22 = r23 →
        wp_L_law_L999 n0 sc Post K18 i3 x_22 y_22 v0_22 v1_22 v2_22 v3_22 z_23 g_23
      ) ∧ (¬ r22 = r23 →
        False
      )
      )
      )
    ) ∧ (¬ ((sc i3.toNatClampNeg) &&& (31 : Int32)) = 10 → (
    (((sc i3.toNatClampNeg) &&& (31 : Int32)) = 11 →
      wp_X0_done x y v0 v1 v2 v3 (fun r24 x_24 y_24 v0_24 v1_24 v2_24 v3_24 =>
      wp_X2_done z g (fun r25 z_25 g_25 =>
      (r24 = r25 →
        wp_L_law_L999 n0 sc Post K18 i3 x_24 y_24 v0_24 v1_24 v2_24 v3_24 z_25 g_25
      ) ∧ (¬ r24 = r25 →
        False
      )
      )
      )
    ) ∧ (¬ ((sc i3.toNatClampNeg) &&& (31 : Int32)) = 11 → (
    (((sc i3.toNatClampNeg) &&& (31 : Int32)) = 12 →
      vp_in (i3 + (1 : Int32)) n0 ∧
      wp_X0_struck (sc (i3 + (1 : Int32)).toNatClampNeg) x y v0 v1 v2 v3 (fun r26 x_26 y_26 v0_26 v1_26 v2_26 v3_26 =>
      vp_in (i3 + (1 : Int32)) n0 ∧
      wp_X2_struck (sc (i3 + (1 : Int32)).toNatClampNeg) z g (fun r27 z_27 g_27 =>
      (r26 = r27 →
        wp_L_law_L999 n0 sc Post K18 i3 x_26 y_26 v0_26 v1_26 v2_26 v3_26 z_27 g_27
      ) ∧ (¬ r26 = r27 →
        False
      )
      )
      )
    ) ∧ (¬ ((sc i3.toNatClampNeg) &&& (31 : Int32)) = 12 → (
    (((sc i3.toNatClampNeg) &&& (31 : Int32)) = 13 →
      vp_in (i3 + (1 : Int32)) n0 ∧
      wp_X0_prints (sc (i3 + (1 : Int32)).toNatClampNeg) x y v0 v1 v2 v3 (fun r28 x_28 y_28 v0_28 v1_28 v2_28 v3_28 =>
      vp_in (i3 + (1 : Int32)) n0 ∧
      wp_X2_prints (sc (i3 + (1 : Int32)).toNatClampNeg) z g (fun r29 z_29 g_29 =>
      (r28 = r29 →
        wp_L_law_L999 n0 sc Post K18 i3 x_28 y_28 v0_28 v1_28 v2_28 v3_28 z_29 g_29
      ) ∧ (¬ r28 = r29 →
        False
      )
      )
      )
    ) ∧ (¬ ((sc i3.toNatClampNeg) &&& (31 : Int32)) = 13 → (
    (((sc i3.toNatClampNeg) &&& (31 : Int32)) = 14 →
      vp_in (i3 + (1 : Int32)) n0 ∧
      vp_in (i3 + (2 : Int32)) n0 ∧
      wp_X0_buys (sc (i3 + (1 : Int32)).toNatClampNeg) (sc (i3 + (2 : Int32)).toNatClampNeg) x y v0 v1 v2 v3 (fun r30 x_30 y_30 v0_30 v1_30 v2_30 v3_30 =>
      vp_in (i3 + (1 : Int32)) n0 ∧
      vp_in (i3 + (2 : Int32)) n0 ∧
      wp_X2_buys (sc (i3 + (1 : Int32)).toNatClampNeg) (sc (i3 + (2 : Int32)).toNatClampNeg) z g (fun r31 z_31 g_31 =>
      (r30 = r31 →
        wp_L_law_L999 n0 sc Post K18 i3 x_30 y_30 v0_30 v1_30 v2_30 v3_30 z_31 g_31
      ) ∧ (¬ r30 = r31 →
        False
      )
      )
      )
    ) ∧ (¬ ((sc i3.toNatClampNeg) &&& (31 : Int32)) = 14 → (
    (((sc i3.toNatClampNeg) &&& (31 : Int32)) = 15 →
      vp_in (i3 + (1 : Int32)) n0 ∧
      vp_in (i3 + (2 : Int32)) n0 ∧
      vp_in (i3 + (3 : Int32)) n0 ∧
      wp_X0_runs (sc (i3 + (1 : Int32)).toNatClampNeg) (sc (i3 + (2 : Int32)).toNatClampNeg) (sc (i3 + (3 : Int32)).toNatClampNeg) x y v0 v1 v2 v3 (fun r32 x_32 y_32 v0_32 v1_32 v2_32 v3_32 =>
      vp_in (i3 + (1 : Int32)) n0 ∧
      vp_in (i3 + (2 : Int32)) n0 ∧
      vp_in (i3 + (3 : Int32)) n0 ∧
      wp_X2_runs (sc (i3 + (1 : Int32)).toNatClampNeg) (sc (i3 + (2 : Int32)).toNatClampNeg) (sc (i3 + (3 : Int32)).toNatClampNeg) z g (fun r33 z_33 g_33 =>
      (r32 = r33 →
        wp_L_law_L999 n0 sc Post K18 i3 x_32 y_32 v0_32 v1_32 v2_32 v3_32 z_33 g_33
      ) ∧ (¬ r32 = r33 →
        False
      )
      )
      )
    ) ∧ (¬ ((sc i3.toNatClampNeg) &&& (31 : Int32)) = 15 → (
    (((sc i3.toNatClampNeg) &&& (31 : Int32)) = 16 →
      vp_in (i3 + (1 : Int32)) n0 ∧
      vp_in (i3 + (2 : Int32)) n0 ∧
      wp_X0_wages (sc (i3 + (1 : Int32)).toNatClampNeg) (sc (i3 + (2 : Int32)).toNatClampNeg) x y v0 v1 v2 v3 (fun r34 x_34 y_34 v0_34 v1_34 v2_34 v3_34 =>
      vp_in (i3 + (1 : Int32)) n0 ∧
      vp_in (i3 + (2 : Int32)) n0 ∧
      wp_X2_wages (sc (i3 + (1 : Int32)).toNatClampNeg) (sc (i3 + (2 : Int32)).toNatClampNeg) z g (fun r35 z_35 g_35 =>
      (r34 = r35 →
        wp_L_law_L999 n0 sc Post K18 i3 x_34 y_34 v0_34 v1_34 v2_34 v3_34 z_35 g_35
      ) ∧ (¬ r34 = r35 →
        False
      )
      )
      )
    ) ∧ (¬ ((sc i3.toNatClampNeg) &&& (31 : Int32)) = 16 → (
    (((sc i3.toNatClampNeg) &&& (31 : Int32)) = 17 →
      vp_in (i3 + (1 : Int32)) n0 ∧
      vp_in (i3 + (2 : Int32)) n0 ∧
      vp_in (i3 + (3 : Int32)) n0 ∧
      vp_in (i3 + (4 : Int32)) n0 ∧
      vp_in (i3 + (5 : Int32)) n0 ∧
      wp_X0_change (sc (i3 + (1 : Int32)).toNatClampNeg) (sc (i3 + (2 : Int32)).toNatClampNeg) (sc (i3 + (3 : Int32)).toNatClampNeg) (sc (i3 + (4 : Int32)).toNatClampNeg) (sc (i3 + (5 : Int32)).toNatClampNeg) x y v0 v1 v2 v3 (fun r36 x_36 y_36 v0_36 v1_36 v2_36 v3_36 =>
      vp_in (i3 + (1 : Int32)) n0 ∧
      vp_in (i3 + (2 : Int32)) n0 ∧
      vp_in (i3 + (3 : Int32)) n0 ∧
      vp_in (i3 + (4 : Int32)) n0 ∧
      vp_in (i3 + (5 : Int32)) n0 ∧
      wp_X2_change (sc (i3 + (1 : Int32)).toNatClampNeg) (sc (i3 + (2 : Int32)).toNatClampNeg) (sc (i3 + (3 : Int32)).toNatClampNeg) (sc (i3 + (4 : Int32)).toNatClampNeg) (sc (i3 + (5 : Int32)).toNatClampNeg) z g (fun r37 z_37 g_37 =>
      ((lg_cmp r36 r37) = 0 →
        wp_L_law_L999 n0 sc Post K18 i3 x_36 y_36 v0_36 v1_36 v2_36 v3_36 z_37 g_37
      ) ∧ (¬ (lg_cmp r36 r37) = 0 →
        False
      )
      )
      )
    ) ∧ (¬ ((sc i3.toNatClampNeg) &&& (31 : Int32)) = 17 → (
    (((sc i3.toNatClampNeg) &&& (31 : Int32)) = 18 →
      vp_in (i3 + (1 : Int32)) n0 ∧
      vp_in (i3 + (2 : Int32)) n0 ∧
      vp_in (i3 + (3 : Int32)) n0 ∧
      vp_in (i3 + (4 : Int32)) n0 ∧
      vp_in (i3 + (5 : Int32)) n0 ∧
      wp_X0_sample (sc (i3 + (1 : Int32)).toNatClampNeg) (sc (i3 + (2 : Int32)).toNatClampNeg) (sc (i3 + (3 : Int32)).toNatClampNeg) (sc (i3 + (4 : Int32)).toNatClampNeg) (sc (i3 + (5 : Int32)).toNatClampNeg) x y v0 v1 v2 v3 (fun r38 x_38 y_38 v0_38 v1_38 v2_38 v3_38 =>
      vp_in (i3 + (1 : Int32)) n0 ∧
      vp_in (i3 + (2 : Int32)) n0 ∧
      vp_in (i3 + (3 : Int32)) n0 ∧
      vp_in (i3 + (4 : Int32)) n0 ∧
      vp_in (i3 + (5 : Int32)) n0 ∧
      wp_X2_sample (sc (i3 + (1 : Int32)).toNatClampNeg) (sc (i3 + (2 : Int32)).toNatClampNeg) (sc (i3 + (3 : Int32)).toNatClampNeg) (sc (i3 + (4 : Int32)).toNatClampNeg) (sc (i3 + (5 : Int32)).toNatClampNeg) z g (fun r39 z_39 g_39 =>
      ((lg_cmp r38 r39) = 0 →
        wp_L_law_L999 n0 sc Post K18 i3 x_38 y_38 v0_38 v1_38 v2_38 v3_38 z_39 g_39
      ) ∧ (¬ (lg_cmp r38 r39) = 0 →
        False
      )
      )
      )
    ) ∧ (¬ ((sc i3.toNatClampNeg) &&& (31 : Int32)) = 18 → (
    (((sc i3.toNatClampNeg) &&& (31 : Int32)) = 19 →
      vp_in (i3 + (1 : Int32)) n0 ∧
      vp_in (i3 + (2 : Int32)) n0 ∧
      vp_in (i3 + (3 : Int32)) n0 ∧
      wp_X0_seen (sc (i3 + (1 : Int32)).toNatClampNeg) (sc (i3 + (2 : Int32)).toNatClampNeg) (sc (i3 + (3 : Int32)).toNatClampNeg) x y v0 v1 v2 v3 (fun r40 x_40 y_40 v0_40 v1_40 v2_40 v3_40 =>
      vp_in (i3 + (1 : Int32)) n0 ∧
      vp_in (i3 + (2 : Int32)) n0 ∧
      vp_in (i3 + (3 : Int32)) n0 ∧
      wp_X2_seen (sc (i3 + (1 : Int32)).toNatClampNeg) (sc (i3 + (2 : Int32)).toNatClampNeg) (sc (i3 + (3 : Int32)).toNatClampNeg) z g (fun r41 z_41 g_41 =>
      (r40 = r41 →
        wp_L_law_L999 n0 sc Post K18 i3 x_40 y_40 v0_40 v1_40 v2_40 v3_40 z_41 g_41
      ) ∧ (¬ r40 = r41 →
        False
      )
      )
      )
    ) ∧ (¬ ((sc i3.toNatClampNeg) &&& (31 : Int32)) = 19 → (
    (((sc i3.toNatClampNeg) &&& (31 : Int32)) = 20 →
      wp_X0_forget x y v0 v1 v2 v3 (fun r42 x_42 y_42 v0_42 v1_42 v2_42 v3_42 =>
      wp_X2_forget z g (fun r43 z_43 g_43 =>
      (r42 = r43 →
        wp_L_law_L999 n0 sc Post K18 i3 x_42 y_42 v0_42 v1_42 v2_42 v3_42 z_43 g_43
      ) ∧ (¬ r42 = r43 →
        False
      )
      )
      )
    ) ∧ (¬ ((sc i3.toNatClampNeg) &&& (31 : Int32)) = 20 → (
    (((sc i3.toNatClampNeg) &&& (31 : Int32)) = 21 →
      vp_in (i3 + (1 : Int32)) n0 ∧
      vp_in (i3 + (2 : Int32)) n0 ∧
      wp_X0_clerks (sc (i3 + (1 : Int32)).toNatClampNeg) (sc (i3 + (2 : Int32)).toNatClampNeg) x y v0 v1 v2 v3 (fun r44 x_44 y_44 v0_44 v1_44 v2_44 v3_44 =>
      vp_in (i3 + (1 : Int32)) n0 ∧
      vp_in (i3 + (2 : Int32)) n0 ∧
      wp_X2_clerks (sc (i3 + (1 : Int32)).toNatClampNeg) (sc (i3 + (2 : Int32)).toNatClampNeg) z g (fun r45 z_45 g_45 =>
      (r44 = r45 →
        wp_L_law_L999 n0 sc Post K18 i3 x_44 y_44 v0_44 v1_44 v2_44 v3_44 z_45 g_45
      ) ∧ (¬ r44 = r45 →
        False
      )
      )
      )
    ) ∧ (¬ ((sc i3.toNatClampNeg) &&& (31 : Int32)) = 21 → (
    (((sc i3.toNatClampNeg) &&& (31 : Int32)) = 22 →
      vp_in (i3 + (1 : Int32)) n0 ∧
      vp_in (i3 + (2 : Int32)) n0 ∧
      wp_X0_count (sc (i3 + (1 : Int32)).toNatClampNeg) (sc (i3 + (2 : Int32)).toNatClampNeg) x y v0 v1 v2 v3 (fun r46 x_46 y_46 v0_46 v1_46 v2_46 v3_46 =>
      vp_in (i3 + (1 : Int32)) n0 ∧
      vp_in (i3 + (2 : Int32)) n0 ∧
      wp_X2_count (sc (i3 + (1 : Int32)).toNatClampNeg) (sc (i3 + (2 : Int32)).toNatClampNeg) z g (fun r47 z_47 g_47 =>
      (r46 = r47 →
        wp_L_law_L999 n0 sc Post K18 i3 x_46 y_46 v0_46 v1_46 v2_46 v3_46 z_47 g_47
      ) ∧ (¬ r46 = r47 →
        False
      )
      )
      )
    ) ∧ (¬ ((sc i3.toNatClampNeg) &&& (31 : Int32)) = 22 → (
    (((sc i3.toNatClampNeg) &&& (31 : Int32)) = 23 →
      vp_in (i3 + (1 : Int32)) n0 ∧
      vp_in (i3 + (2 : Int32)) n0 ∧
      vp_in (i3 + (3 : Int32)) n0 ∧
      wp_X0_year (sc (i3 + (1 : Int32)).toNatClampNeg) (sc (i3 + (2 : Int32)).toNatClampNeg) (sc (i3 + (3 : Int32)).toNatClampNeg) x y v0 v1 v2 v3 (fun r48 x_48 y_48 v0_48 v1_48 v2_48 v3_48 =>
      vp_in (i3 + (1 : Int32)) n0 ∧
      vp_in (i3 + (2 : Int32)) n0 ∧
      vp_in (i3 + (3 : Int32)) n0 ∧
      wp_X2_year (sc (i3 + (1 : Int32)).toNatClampNeg) (sc (i3 + (2 : Int32)).toNatClampNeg) (sc (i3 + (3 : Int32)).toNatClampNeg) z g (fun r49 z_49 g_49 =>
      (r48 = r49 →
        wp_L_law_L999 n0 sc Post K18 i3 x_48 y_48 v0_48 v1_48 v2_48 v3_48 z_49 g_49
      ) ∧ (¬ r48 = r49 →
        False
      )
      )
      )
    ) ∧ (¬ ((sc i3.toNatClampNeg) &&& (31 : Int32)) = 23 → (
    (((sc i3.toNatClampNeg) &&& (31 : Int32)) = 24 →
      vp_in (i3 + (1 : Int32)) n0 ∧
      wp_X0_image (sc (i3 + (1 : Int32)).toNatClampNeg) x y v0 v1 v2 v3 (fun r50 x_50 y_50 v0_50 v1_50 v2_50 v3_50 =>
      vp_in (i3 + (1 : Int32)) n0 ∧
      wp_X2_image (sc (i3 + (1 : Int32)).toNatClampNeg) z g (fun r51 z_51 g_51 =>
      (r50 = r51 →
        wp_L_law_L999 n0 sc Post K18 i3 x_50 y_50 v0_50 v1_50 v2_50 v3_50 z_51 g_51
      ) ∧ (¬ r50 = r51 →
        False
      )
      )
      )
    ) ∧ (¬ ((sc i3.toNatClampNeg) &&& (31 : Int32)) = 24 → (
    (((sc i3.toNatClampNeg) &&& (31 : Int32)) = 25 →
      vp_in (i3 + (1 : Int32)) n0 ∧
      wp_X0_restore (sc (i3 + (1 : Int32)).toNatClampNeg) x y v0 v1 v2 v3 (fun r52 x_52 y_52 v0_52 v1_52 v2_52 v3_52 =>
      vp_in (i3 + (1 : Int32)) n0 ∧
      wp_X2_restore (sc (i3 + (1 : Int32)).toNatClampNeg) z g (fun r53 z_53 g_53 =>
      (r52 = r53 →
        wp_L_law_L999 n0 sc Post K18 i3 x_52 y_52 v0_52 v1_52 v2_52 v3_52 z_53 g_53
      ) ∧ (¬ r52 = r53 →
        False
      )
      )
      )
    ) ∧ (¬ ((sc i3.toNatClampNeg) &&& (31 : Int32)) = 25 → (
    (((sc i3.toNatClampNeg) &&& (31 : Int32)) = 26 →
      vp_in (i3 + (1 : Int32)) n0 ∧
      wp_X0_told (sc (i3 + (1 : Int32)).toNatClampNeg) x y v0 v1 v2 v3 (fun r54 x_54 y_54 v0_54 v1_54 v2_54 v3_54 =>
      vp_in (i3 + (1 : Int32)) n0 ∧
      wp_X2_told (sc (i3 + (1 : Int32)).toNatClampNeg) z g (fun r55 z_55 g_55 =>
      (r54 = r55 →
        wp_L_law_L999 n0 sc Post K18 i3 x_54 y_54 v0_54 v1_54 v2_54 v3_54 z_55 g_55
      ) ∧ (¬ r54 = r55 →
        False
      )
      )
      )
    ) ∧ (¬ ((sc i3.toNatClampNeg) &&& (31 : Int32)) = 26 → (
      wp_L_law_L999 n0 sc Post K18 i3 x y v0 v1 v2 v3 z g
    ))))))))))))))))))))))))))))))))))))))))))))))))))))))
  )
def wp_L_law_L18 (n0 : Nat) (sc : Nat → Int32) (Post : Int32 → Prop)  : Nat → Int32 → V → VL → V → V → V → V → V → VL → Prop
  | 0 => fun _ _ _ _ _ _ _ _ _ => False
  | n + 1 => wp_L_law_S18 n0 sc Post  (wp_L_law_L18 n0 sc Post  n)
