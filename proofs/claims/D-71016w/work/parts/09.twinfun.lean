def zm_in (p0 p2 p4 : Int) : Option (Int) :=
  zk_g (zk_Q64 p0 ∧ zk_Q64 p2) (if p0 < p2 then (some 0) else (zk_g (zk_Q64 p0 ∧ zk_Q64 p4) (if p4 < p0 then (some 0) else (some 1))))
def zm_isRow (p0 : Int) : Option (Int) :=
  zk_g (zk_R p0) (zk_b (zm_in p0 0 5) fun v1 => zk_g (v1 = 0 ∨ v1 = 1) (some v1))
def zm_find (p1 : Int) (σ : ZS) : Option (Int × ZS) :=
  zk_n (zk_u σ 10 0 p1) fun s1 => zk_g (0 ≤ p1 ∧ p1 < 6) (zk_g (0 ≤ p1 ∧ p1 < 6) (zk_n (zk_u s1 11 p1 (s1 11 p1 + 1)) fun s2 => some ((-3), s2)))
def zm_makeRow_b9 (N : Nat) (x1 x3 : Int) (s0 : ZS) : Option ((Int × ZS) ⊕ (ZS)) :=
  zk_g (zk_R x3) (if 40 ≤ x3 then (some (.inr (s0))) else (zk_g (0 ≤ (40 * x1 + x3) ∧ (40 * x1 + x3) < 240) (zk_n (zk_u s0 4 (40 * x1 + x3) 0) fun s2 => zk_n (α := Int) (x3 + 1) fun x3_3 => some (.inl (x3_3, s2)))))
def zm_makeRow_j33 (N : Nat) (s0 : ZS) : Option (Int × ZS) :=
  some (0, s0)
def zm_makeRow (N : Nat) (p1 p2 : Int) (σ : ZS) : Option (Int × ZS) :=
  zk_g (0 ≤ p1 ∧ p1 < 6) (zk_n (zk_u σ 3 p1 p2) fun s1 => zk_b (zk_loop (α := Int × ZS) (β := ZS) N (fun a => zm_makeRow_b9 N p1 a.1 a.2) (0, s1)) (fun e => zm_makeRow_j33 N e))
def zm_row (N : Nat) (p1 p2 : Int) (σ : ZS) : Option (Int × ZS) :=
  zk_b (zm_isRow p1) fun v1 => zk_g (zk_R v1) (if v1 = 0 then (some ((-1), σ)) else (zk_g (zk_R p2) (if p2 ≤ 40 then (zk_g (zk_R p2) (if 0 ≤ p2 then (zk_b2 (zm_makeRow N p1 p2 σ) fun v2 s3 => some (p2, s3)) else (zk_b2 (zm_find 5 σ) fun v4 s5 => some (v4, s5)))) else (some ((-1), σ)))))
def zm_refused (p1 p2 : Int) (σ : ZS) : Option (Int × ZS) :=
  zk_b (zm_isRow p1) fun v1 => zk_g (zk_R v1) (if v1 = 0 then (some ((-1), σ)) else (zk_g (0 ≤ p1 ∧ p1 < 6) (zk_g (zk_R (σ 3 p1)) (if 0 ≤ (σ 3 p1) then (zk_g (zk_R p2) (zk_g (0 ≤ p1 ∧ p1 < 6) (zk_g (zk_R (σ 3 p1 - 1)) (zk_b (zm_in p2 0 (σ 3 p1 - 1)) fun v2 => zk_g (zk_R v2) (if v2 = 0 then (zk_b2 (zm_find 2 σ) fun v3 s4 => some (v3, s4)) else (some (0, σ))))))) else (zk_b2 (zm_find 1 σ) fun v5 s6 => some (v5, s6))))))
def zm_tell (p1 : Int) (σ : ZS) : Option (Int × ZS) :=
  zk_n (zk_u σ 7 0 p1) fun s1 => some (1, s1)
def zm_lay (p1 p2 p3 : Int) (σ : ZS) : Option (Int × ZS) :=
  zk_b2 (zm_refused p1 p2 σ) fun v1 s2 => zk_g (zk_R v1) (if v1 = 0 then (zk_g (0 ≤ (40 * p1 + p2) ∧ (40 * p1 + p2) < 240) (zk_n (α := Int) (s2 4 (40 * p1 + p2)) fun x5_3 => zk_g (0 ≤ (40 * p1 + p2) ∧ (40 * p1 + p2) < 240) (zk_n (zk_u s2 4 (40 * p1 + p2) p3) fun s4 => zk_b2 (zm_tell x5_3 s4) fun v5 s6 => some (v5, s6)))) else (some (v1, s2)))
def zm_at (p1 p2 : Int) (σ : ZS) : Option (Int × ZS) :=
  zk_b2 (zm_refused p1 p2 σ) fun v1 s2 => zk_g (zk_R v1) (if v1 = 0 then (zk_g (0 ≤ (40 * p1 + p2) ∧ (40 * p1 + p2) < 240) (zk_b2 (zm_tell (s2 4 (40 * p1 + p2)) s2) fun v3 s4 => some (v3, s4))) else (some (v1, s2)))
def zm_tear (p1 : Int) (σ : ZS) : Option (Int × ZS) :=
  zk_b (zm_isRow p1) fun v1 => zk_g (zk_R v1) (if v1 = 0 then (some ((-1), σ)) else (zk_g (0 ≤ p1 ∧ p1 < 6) (zk_g (zk_R (σ 3 p1)) (if 0 ≤ (σ 3 p1) then (zk_g (0 ≤ p1 ∧ p1 < 6) (zk_n (zk_u σ 3 p1 (-1)) fun s2 => some (1, s2))) else (zk_b2 (zm_find 1 σ) fun v3 s4 => some (v3, s4))))))
def zm_isSpan (p1 p2 p3 : Int) (σ : ZS) : Option (Int) :=
  zk_g (zk_R p2) (if p2 < 0 then (some 0) else (zk_g (zk_R p2) (zk_g (zk_R p3) (zk_g (0 ≤ p1 ∧ p1 < 6) (zk_g (zk_R (σ 3 p1)) (zk_g (zk_Q64 (p2 + p3) ∧ zk_Q64 (σ 3 p1)) (if (σ 3 p1) < (p2 + p3) then (some 0) else (some 1))))))))
def zm_copy_j45 (N : Nat) (s0 : ZS) : Option (Int × ZS) :=
  zk_b2 (zm_find 1 s0) fun v8 s9 => some (v8, s9)
def zm_copy_j74 (N : Nat) (s0 : ZS) : Option (Int × ZS) :=
  zk_b2 (zm_find 2 s0) fun v10 s11 => some (v10, s11)
def zm_copy_b96 (N : Nat) (x1 x2 x3 x4 x5 x6 x7 : Int) (s0 : ZS) : Option ((Int × ZS) ⊕ (ZS)) :=
  zk_g (zk_R x7 ∧ zk_R x5) (if x5 ≤ x7 then (some (.inr (s0))) else (zk_g (zk_R x6) (zk_n (α := Int) (if x6 = 0 then x7 else x5 - 1 - x7) fun x8_12 => zk_g (0 ≤ (40 * x1 + x2 + x8_12) ∧ (40 * x1 + x2 + x8_12) < 240) (zk_g (0 ≤ (40 * x3 + x4 + x8_12) ∧ (40 * x3 + x4 + x8_12) < 240) (zk_n (zk_u s0 4 (40 * x3 + x4 + x8_12) (s0 4 (40 * x1 + x2 + x8_12))) fun s13 => zk_n (α := Int) (x7 + 1) fun x7_14 => some (.inl (x7_14, s13)))))))
def zm_copy_j157 (N : Nat) (s0 : ZS) : Option (Int × ZS) :=
  some (1, s0)
def zm_copy (N : Nat) (p1 p2 p3 p4 p5 : Int) (σ : ZS) : Option (Int × ZS) :=
  zk_b (zm_isRow p1) fun v1 => zk_g (zk_R v1) (if v1 = 0 then (some ((-1), σ)) else (zk_b (zm_isRow p3) fun v2 => zk_g (zk_R v2) (if v2 = 0 then (some ((-1), σ)) else (zk_g (zk_R p5) (if 0 ≤ p5 then (zk_g (0 ≤ p1 ∧ p1 < 6) (zk_g (zk_R (σ 3 p1)) (if (σ 3 p1) < 0 then (zm_copy_j45 N σ) else (zk_g (0 ≤ p3 ∧ p3 < 6) (zk_g (zk_R (σ 3 p3)) (if 0 ≤ (σ 3 p3) then (zk_b (zm_isSpan p1 p2 p5 σ) fun v3 => zk_g (zk_R v3) (if v3 = 0 then (zm_copy_j74 N σ) else (zk_b (zm_isSpan p3 p4 p5 σ) fun v4 => zk_g (zk_R v4) (if v4 = 0 then (zm_copy_j74 N σ) else (zk_g (zk_R p2 ∧ zk_R p4) (zk_n (α := Int) (if p4 ≤ p2 then 0 else 1) fun x6_5 => zk_b (zk_loop (α := Int × ZS) (β := ZS) N (fun a => zm_copy_b96 N p1 p2 p3 p4 p5 x6_5 a.1 a.2) (0, σ)) (fun e => zm_copy_j157 N e))))))) else (zm_copy_j45 N σ))))))) else (zk_b2 (zm_find 5 σ) fun v6 s7 => some (v6, s7)))))))
def zm_mean_b44 (N : Nat) (x1 x2 x4 : Int) (s0 : ZS) : Option ((Int × Int) ⊕ (Int)) :=
  zk_g (0 ≤ x1 ∧ x1 < 6) (zk_g (zk_R x4 ∧ zk_R (s0 3 x1)) (if (s0 3 x1) ≤ x4 then (some (.inr (x2))) else (zk_g (0 ≤ (40 * x1 + x4) ∧ (40 * x1 + x4) < 240) (zk_g (zk_R (s0 4 (40 * x1 + x4))) (zk_n (α := Int) (x2 + (s0 4 (40 * x1 + x4))) fun x2_6 => zk_n (α := Int) (x4 + 1) fun x4_7 => some (.inl (x2_6, x4_7)))))))
def zm_mean_j77 (N : Nat) (x1 x2 : Int) (s0 : ZS) : Option (Int × ZS) :=
  zk_g (0 ≤ x1 ∧ x1 < 6) (zk_g (zk_R (s0 3 x1)) (zk_g (zk_Q64 x2 ∧ (0 < (s0 3 x1) ∧ (s0 3 x1) ≤ 9223372036854775807)) (zk_b2 (zm_tell (Int.tdiv x2 (s0 3 x1)) s0) fun v8 s9 => some (v8, s9))))
def zm_mean (N : Nat) (p1 : Int) (σ : ZS) : Option (Int × ZS) :=
  zk_b (zm_isRow p1) fun v1 => zk_g (zk_R v1) (if v1 = 0 then (some ((-1), σ)) else (zk_g (0 ≤ p1 ∧ p1 < 6) (zk_g (zk_R (σ 3 p1)) (if 0 ≤ (σ 3 p1) then (zk_g (0 ≤ p1 ∧ p1 < 6) (zk_g (zk_R (σ 3 p1)) (if (σ 3 p1) = 0 then (zk_b2 (zm_find 4 σ) fun v2 s3 => some (v2, s3)) else (zk_b (zk_loop (α := Int × Int) (β := Int) N (fun a => zm_mean_b44 N p1 a.1 a.2 σ) (0, 0)) (fun e => zm_mean_j77 N p1 e σ))))) else (zk_b2 (zm_find 1 σ) fun v4 s5 => some (v4, s5))))))
def zm_isText (p0 : Int) : Option (Int) :=
  zk_g (zk_R p0) (zk_b (zm_in p0 0 3) fun v1 => zk_g (v1 = 0 ∨ v1 = 1) (some v1))
def zm_text_b34 (N : Nat) (x1 x2 x3 : Int) (s0 : ZS) : Option ((Int × ZS) ⊕ (ZS)) :=
  zk_g (zk_R x3) (if 60 ≤ x3 then (some (.inr (s0))) else (zk_g (0 ≤ (60 * x1 + x3) ∧ (60 * x1 + x3) < 240) (zk_n (zk_u s0 6 (60 * x1 + x3) 32) fun s5 => zk_n (α := Int) (x3 + 1) fun x3_6 => some (.inl (x3_6, s5)))))
def zm_text_j59 (N : Nat) (x2 : Int) (s0 : ZS) : Option (Int × ZS) :=
  some (x2, s0)
def zm_text (N : Nat) (p1 p2 : Int) (σ : ZS) : Option (Int × ZS) :=
  zk_b (zm_isText p1) fun v1 => zk_g (zk_R v1) (if v1 = 0 then (some ((-1), σ)) else (zk_g (zk_R p2) (if p2 ≤ 60 then (zk_g (zk_R p2) (if 0 ≤ p2 then (zk_g (0 ≤ p1 ∧ p1 < 4) (zk_n (zk_u σ 5 p1 p2) fun s2 => zk_b (zk_loop (α := Int × ZS) (β := ZS) N (fun a => zm_text_b34 N p1 p2 a.1 a.2) (0, s2)) (fun e => zm_text_j59 N p2 e))) else (zk_b2 (zm_find 5 σ) fun v3 s4 => some (v3, s4)))) else (some ((-1), σ)))))
def zm_put (p1 p2 p3 : Int) (σ : ZS) : Option (Int × ZS) :=
  zk_b (zm_isText p1) fun v1 => zk_g (zk_R v1) (if v1 = 0 then (some ((-1), σ)) else (zk_g (0 ≤ p1 ∧ p1 < 4) (zk_g (zk_R (σ 5 p1)) (if 0 ≤ (σ 5 p1) then (zk_g (zk_R p2) (zk_g (0 ≤ p1 ∧ p1 < 4) (zk_g (zk_R (σ 5 p1 - 1)) (zk_b (zm_in p2 0 (σ 5 p1 - 1)) fun v2 => zk_g (zk_R v2) (if v2 = 0 then (zk_b2 (zm_find 2 σ) fun v5 s6 => some (v5, s6)) else (zk_g (0 ≤ (60 * p1 + p2) ∧ (60 * p1 + p2) < 240) (zk_n (α := Int) (σ 6 (60 * p1 + p2)) fun x4_3 => zk_g (0 ≤ (60 * p1 + p2) ∧ (60 * p1 + p2) < 240) (zk_n (zk_u σ 6 (60 * p1 + p2) (zk_byte p3)) fun s4 => some (x4_3 + 1000, s4))))))))) else (zk_b2 (zm_find 1 σ) fun v7 s8 => some (v7, s8))))))
def zm_here (σ : ZS) : Option (Int) :=
  zk_g (0 ≤ (σ 12 0 + (σ 13 0)) ∧ (σ 12 0 + (σ 13 0)) < 240) (some (σ 6 (σ 12 0 + (σ 13 0))))
def zm_skip_b0 (N : Nat) (s0 : ZS) : Option ((ZS) ⊕ (ZS)) :=
  zk_g (zk_R (s0 13 0) ∧ zk_R (s0 14 0)) (if (s0 14 0) ≤ (s0 13 0) then (some (.inr (s0))) else (zk_b (zm_here s0) fun v3 => zk_g (zk_R v3) (if v3 = 32 then (zk_n (zk_u s0 13 0 (s0 13 0 + 1)) fun s4 => some (.inl (s4))) else (some (.inr (s0))))))
def zm_skip_j33 (N : Nat) (s0 : ZS) : Option (Int × ZS) :=
  some (0, s0)
def zm_skip (N : Nat) (σ : ZS) : Option (Int × ZS) :=
  zk_g (zk_R (σ 13 0) ∧ zk_R (σ 14 0)) (if (σ 14 0) ≤ (σ 13 0) then (some (0, σ)) else (zk_b (zm_here σ) fun v1 => zk_g (zk_R v1) (if v1 = 32 then (zk_n (zk_u σ 13 0 (σ 13 0 + 1)) fun s2 => zk_b (zk_loop (α := ZS) (β := ZS) N (fun a => zm_skip_b0 N a) (s2)) (fun e => zm_skip_j33 N e)) else (some (0, σ)))))
def zm_figure (σ : ZS) : Option (Int × ZS) :=
  zk_g (zk_R (σ 13 0) ∧ zk_R (σ 14 0)) (if (σ 13 0) = (σ 14 0) then (some ((-9), σ)) else (zk_b (zm_here σ) fun v1 => zk_g (zk_R v1) (zk_b (zm_in v1 48 57) fun v2 => zk_g (zk_R v2) (if v2 = 0 then (some ((-9), σ)) else (zk_n (zk_u σ 13 0 (σ 13 0 + 1)) fun s3 => zk_g (0 ≤ (s3 12 0 + (s3 13 0) - 1) ∧ (s3 12 0 + (s3 13 0) - 1) < 240) (some (s3 6 (s3 12 0 + (s3 13 0) - 1) - 48, s3)))))))
def zm_readsFord (N : Nat) (σ : ZS) : Option (Int × ZS) :=
  zk_b2 (zm_skip N σ) fun v1 s2 => zk_g (zk_R (s2 13 0) ∧ zk_R (s2 14 0)) (if (s2 13 0) = (s2 14 0) then (some (0, s2)) else (zk_b (zm_here s2) fun v3 => zk_g (zk_R v3) (if v3 = 102 then (zk_n (zk_u s2 13 0 (s2 13 0 + 1)) fun s4 => zk_b2 (zm_figure s4) fun v5 s6 => zk_n (zk_u s6 15 0 v5) fun s7 => zk_g (zk_R (s7 15 0)) (some (if (s7 15 0) = (-9) then 0 else 1, s7))) else (some (0, s2)))))
def zm_kindOfLetter (p0 : Int) : Option (Int) :=
  zk_g (zk_R p0) (if p0 = 112 then (some 0) else (zk_g (zk_R p0) (if p0 = 100 then (some 1) else (zk_g (zk_R p0) (if p0 = 101 then (some 2) else (zk_g (zk_R p0) (if p0 = 98 then (some 3) else (zk_g (zk_R p0) (if p0 = 116 then (some 4) else (zk_g (zk_R p0) (if p0 = 113 then (some 5) else (some (-9)))))))))))))
def zm_twoFigures_j25 (x1 x2 x3 y0 : Int) (s0 : ZS) : Option (Int × ZS) :=
  zk_g (zk_R y0) (if y0 = (-9) then (some ((-9), s0)) else (zk_g (zk_R (10 * x3 + y0) ∧ zk_R x1) (if (10 * x3 + y0) ≤ x1 then (some (10 * x3 + y0, s0)) else (zk_n (zk_u s0 13 0 x2) fun s6 => some ((-9), s6)))))
def zm_twoFigures (p1 : Int) (σ : ZS) : Option (Int × ZS) :=
  zk_n (α := Int) (σ 13 0) fun x2_1 => zk_b2 (zm_figure σ) fun v2 s3 => zk_g (zk_R v2) (if v2 = (-9) then (zm_twoFigures_j25 p1 x2_1 v2 (-9) s3) else (zk_b2 (zm_figure s3) fun v4 s5 => zm_twoFigures_j25 p1 x2_1 v2 v4 s5))
def zm_readsOne_j64 (x1 x2 x3 y0 : Int) (s0 : ZS) : Option (Int × ZS) :=
  zk_g (zk_R y0) (if y0 = (-9) then (some (0, s0)) else (zk_g (0 ≤ x1 ∧ x1 < 18) (zk_n (zk_u s0 16 x1 x2) fun s9 => zk_g (0 ≤ (x1 + 1) ∧ (x1 + 1) < 18) (zk_n (zk_u s9 16 (x1 + 1) x3) fun s10 => zk_g (0 ≤ (x1 + 2) ∧ (x1 + 2) < 18) (zk_n (zk_u s10 16 (x1 + 2) y0) fun s11 => zk_n (zk_u s11 17 0 (s11 17 0 + 1)) fun s12 => some (1, s12))))))
def zm_readsOne (σ : ZS) : Option (Int × ZS) :=
  zk_n (α := Int) (3 * (σ 17 0)) fun x1_1 => zk_b (zm_here σ) fun v2 => zk_b (zm_kindOfLetter v2) fun v3 => zk_g (zk_R v3) (if v3 = (-9) then (some (0, σ)) else (zk_g (zk_R (σ 17 0)) (if (σ 17 0) = 6 then (some (0, σ)) else (zk_n (zk_u σ 13 0 (σ 13 0 + 1)) fun s4 => zk_b2 (zm_figure s4) fun v5 s6 => zk_g (zk_R v5) (if v5 = (-9) then (zm_readsOne_j64 x1_1 v3 v5 (-9) s6) else (zk_b2 (zm_twoFigures 20 s6) fun v7 s8 => zm_readsOne_j64 x1_1 v3 v5 v7 s8))))))
def zm_faultOf_b41 (N : Nat) (x2 : Int) (s0 : ZS) : Option ((Int × ZS) ⊕ (Int × ZS)) :=
  zk_g (zk_R x2) (if x2 = 0 then (some (.inr (x2, s0))) else (zk_g (zk_R (s0 13 0) ∧ zk_R (s0 14 0)) (if (s0 14 0) ≤ (s0 13 0) then (some (.inr (x2, s0))) else (zk_b2 (zm_readsOne s0) fun v9 s10 => zk_g (zk_R v9) (if v9 = 0 then (some (.inl (v9, s10))) else (zk_b2 (zm_skip N s10) fun v11 s12 => some (.inl (v9, s12))))))))
def zm_faultOf_j88 (N : Nat) (s0 : ZS) : Option (Int × ZS) :=
  some (s0 13 0, s0)
def zm_faultOf_j72 (N : Nat) (x2 : Int) (s0 : ZS) : Option (Int × ZS) :=
  zk_g (zk_R x2) (if x2 = 0 then (zm_faultOf_j88 N s0) else (zk_g (zk_R (s0 17 0)) (if (s0 17 0) ≤ 0 then (zm_faultOf_j88 N s0) else (some ((-9), s0)))))
def zm_faultOf (N : Nat) (p1 : Int) (σ : ZS) : Option (Int × ZS) :=
  zk_n (zk_u σ 12 0 (60 * p1)) fun s1 => zk_n (zk_u s1 13 0 0) fun s2 => zk_g (0 ≤ p1 ∧ p1 < 4) (zk_n (zk_u s2 14 0 (s2 5 p1)) fun s3 => zk_n (zk_u s3 17 0 0) fun s4 => zk_b2 (zm_readsFord N s4) fun v5 s6 => zk_g (zk_R v5) (if v5 = 0 then (zk_b (zk_loop (α := Int × ZS) (β := Int × ZS) N (fun a => zm_faultOf_b41 N a.1 a.2) (v5, s6)) (fun e => zm_faultOf_j72 N e.1 e.2)) else (zk_b2 (zm_skip N s6) fun v7 s8 => zk_b (zk_loop (α := Int × ZS) (β := Int × ZS) N (fun a => zm_faultOf_b41 N a.1 a.2) (v5, s8)) (fun e => zm_faultOf_j72 N e.1 e.2))))
def zm_fault (N : Nat) (p1 : Int) (σ : ZS) : Option (Int × ZS) :=
  zk_b (zm_isText p1) fun v1 => zk_g (zk_R v1) (if v1 = 0 then (some ((-1), σ)) else (zk_g (0 ≤ p1 ∧ p1 < 4) (zk_g (zk_R (σ 5 p1)) (if 0 ≤ (σ 5 p1) then (zk_b2 (zm_faultOf N p1 σ) fun v2 s3 => some (v2, s3)) else (zk_b2 (zm_find 1 σ) fun v4 s5 => some (v4, s5))))))
def zm_river_b39 (N : Nat) (x2 : Int) (s0 : ZS) : Option ((Int × ZS) ⊕ (ZS)) :=
  zk_g (zk_R x2) (if 821 ≤ x2 then (some (.inr (s0))) else (zk_g (0 ≤ x2 ∧ x2 < 3305) (zk_n (zk_u s0 0 x2 0) fun s6 => zk_n (α := Int) (x2 + 1) fun x2_7 => some (.inl (x2_7, s6)))))
def zm_river_b79 (N : Nat) (x2 : Int) (s0 : ZS) : Option ((Int × ZS) ⊕ (ZS)) :=
  zk_g (zk_R x2 ∧ zk_R (s0 1 0)) (if (s0 1 0) ≤ x2 then (some (.inr (s0))) else (zk_g (0 ≤ (3 * x2) ∧ (3 * x2) < 18) (zk_g (0 ≤ x2 ∧ x2 < 6) (zk_n (zk_u s0 2 x2 (s0 16 (3 * x2))) fun s10 => zk_g (0 ≤ (3 * x2 + 1) ∧ (3 * x2 + 1) < 18) (zk_g (0 ≤ (3 + x2) ∧ (3 + x2) < 3305) (zk_n (zk_u s10 0 (3 + x2) (s10 16 (3 * x2 + 1))) fun s11 => zk_g (0 ≤ (3 * x2 + 2) ∧ (3 * x2 + 2) < 18) (zk_g (0 ≤ (9 + x2) ∧ (9 + x2) < 3305) (zk_n (zk_u s11 0 (9 + x2) (s11 16 (3 * x2 + 2))) fun s12 => zk_n (α := Int) (x2 + 1) fun x2_13 => some (.inl (x2_13, s12))))))))))
def zm_river_b146 (N : Nat) (x2 : Int) (s0 : ZS) : Option ((Int × ZS) ⊕ (ZS)) :=
  zk_g (zk_R x2) (if 4 ≤ x2 then (some (.inr (s0))) else (zk_g (0 ≤ (821 * x2 + 0) ∧ (821 * x2 + 0) < 3305) (zk_n (zk_u s0 0 (821 * x2 + 0) (-1)) fun s14 => zk_n (α := Int) (x2 + 1) fun x2_15 => some (.inl (x2_15, s14)))))
def zm_river_j170 (N : Nat) (s0 : ZS) : Option (Int × ZS) :=
  some (s0 1 0, s0)
def zm_river_j144 (N : Nat) (s0 : ZS) : Option (Int × ZS) :=
  zk_b (zk_loop (α := Int × ZS) (β := ZS) N (fun a => zm_river_b146 N a.1 a.2) (1, s0)) (fun e => zm_river_j170 N e)
def zm_river_j59 (N : Nat) (s0 : ZS) : Option (Int × ZS) :=
  zk_g (0 ≤ (2 : Int) ∧ (2 : Int) < 3305) (zk_n (zk_u s0 0 2 (s0 15 0)) fun s8 => zk_n (zk_u s8 1 0 (s8 17 0)) fun s9 => zk_b (zk_loop (α := Int × ZS) (β := ZS) N (fun a => zm_river_b79 N a.1 a.2) (0, s9)) (fun e => zm_river_j144 N e))
def zm_river (N : Nat) (p1 : Int) (σ : ZS) : Option (Int × ZS) :=
  zk_b (zm_isText p1) fun v1 => zk_g (zk_R v1) (if v1 = 0 then (some ((-1), σ)) else (zk_g (0 ≤ p1 ∧ p1 < 4) (zk_g (zk_R (σ 5 p1)) (if 0 ≤ (σ 5 p1) then (zk_b2 (zm_faultOf N p1 σ) fun v2 s3 => zk_g (zk_R v2) (if v2 = (-9) then (zk_b (zk_loop (α := Int × ZS) (β := ZS) N (fun a => zm_river_b39 N a.1 a.2) (0, s3)) (fun e => zm_river_j59 N e)) else (some ((-4), s3)))) else (zk_b2 (zm_find 1 σ) fun v4 s5 => some (v4, s5))))))
def zm_isOne (p1 : Int) (σ : ZS) : Option (Int) :=
  zk_g (zk_R p1) (zk_g (zk_R (σ 1 0 - 1)) (zk_b (zm_in p1 0 (σ 1 0 - 1)) fun v1 => zk_g (v1 = 0 ∨ v1 = 1) (some v1)))
def zm_apart (p0 p1 : Int) : Option (Int) :=
  zk_g (zk_R p0 ∧ zk_R p1) (some (if p0 ≤ p1 then p1 - p0 else p0 - p1))
def zm_farOf (p1 p2 : Int) (σ : ZS) : Option (Int) :=
  zk_g (0 ≤ (p1 + 3 + p2) ∧ (p1 + 3 + p2) < 3305) (zk_g (0 ≤ (p1 + 2) ∧ (p1 + 2) < 3305) (zk_b (zm_apart (σ 0 (p1 + 3 + p2)) (σ 0 (p1 + 2))) fun v1 => some v1))
def zm_daresBy (p0 p1 p2 p3 : Int) : Option (Int) :=
  zk_g (zk_R p1) (zk_n (α := Int) (if 5 ≤ p1 then p1 else 0) fun x4_1 => zk_g (zk_R p0) (if p0 = 1 then (zk_g ((0 ≤ p2 ∧ p2 ≤ 2147483647) ∧ (0 < (2 : Int) ∧ (2 : Int) ≤ 2147483647)) (zk_g (zk_R (p2 % 2)) (some (if (p2 % 2) = 0 then 2 * p1 else p1)))) else if p0 = 2 then (some x4_1) else if p0 = 4 then (zk_g (zk_R p3) (some (p1 + (if 3 ≤ p3 then 3 else p3)))) else if p0 = 5 then (zk_g (zk_R x4_1) (some (if 10 ≤ x4_1 then 0 else 10 - x4_1))) else (some p1)))
def zm_daresIn (p1 p2 : Int) (σ : ZS) : Option (Int) :=
  zk_g (0 ≤ p2 ∧ p2 < 6) (zk_g (0 ≤ (p1 + 9 + p2) ∧ (p1 + 9 + p2) < 3305) (zk_g (0 ≤ (p1 + 1) ∧ (p1 + 1) < 3305) (zk_b (zm_farOf p1 p2 σ) fun v1 => zk_b (zm_daresBy (σ 2 p2) (σ 0 (p1 + 9 + p2)) (σ 0 (p1 + 1)) v1) fun v2 => some v2)))
def zm_toldOf (p1 p2 : Int) (σ : ZS) : Option (Int) :=
  zk_g (zk_R p2) (if p2 = 0 then (zk_g (0 ≤ p1 ∧ p1 < 6) (some (σ 2 p1))) else if p2 = 1 then (zk_g (0 ≤ (3 + p1) ∧ (3 + p1) < 3305) (some (σ 0 (3 + p1)))) else if p2 = 2 then (zk_g (0 ≤ (9 + p1) ∧ (9 + p1) < 3305) (some (σ 0 (9 + p1)))) else if p2 = 3 then (zk_b (zm_daresIn 0 p1 σ) fun v1 => some v1) else if p2 = 4 then (zk_g (0 ≤ (15 + p1) ∧ (15 + p1) < 3305) (some (σ 0 (15 + p1)))) else (zk_b (zm_farOf 0 p1 σ) fun v2 => some v2))
def zm_one (p1 p2 : Int) (σ : ZS) : Option (Int × ZS) :=
  zk_b (zm_isOne p1 σ) fun v1 => zk_g (zk_R v1) (if v1 = 0 then (some ((-1), σ)) else (zk_g (zk_R p2) (zk_b (zm_in p2 0 5) fun v2 => zk_g (zk_R v2) (if v2 = 0 then (some ((-1), σ)) else (zk_b (zm_toldOf p1 p2 σ) fun v3 => zk_b2 (zm_tell v3 σ) fun v4 s5 => some (v4, s5))))))
def zm_isOf_j22 (x2 x3 : Int) (σ : ZS) : Option (Int) :=
  zk_g (zk_R x2) (if x2 = 2 then (zk_g (zk_R x3) (if x3 = 5 then (some 1) else (some 0))) else (some 0))
def zm_isOf (p1 p2 : Int) (σ : ZS) : Option (Int) :=
  zk_g (0 ≤ p1 ∧ p1 < 6) (zk_n (α := Int) (σ 2 p1) fun x3_1 => zk_g (zk_R x3_1 ∧ zk_R p2) (if x3_1 = p2 then (some 1) else (zk_g (zk_R p2) (if p2 = 3 then (zk_g (zk_R x3_1) (if x3_1 = 4 then (some 1) else (zm_isOf_j22 p2 x3_1 σ))) else (zm_isOf_j22 p2 x3_1 σ)))))
def zm_lesserThan_b4 (N : Nat) (x1 x2 x3 : Int) (σ : ZS) : Option ((Int × Int) ⊕ (Int)) :=
  zk_g (zk_R x3 ∧ zk_R (σ 1 0)) (if (σ 1 0) ≤ x3 then (some (.inr (x2))) else (zk_g (0 ≤ (9 + x3) ∧ (9 + x3) < 3305) (zk_g (zk_R (σ 0 (9 + x3)) ∧ zk_R x1) (zk_n (α := Int) (x2 + (if x1 ≤ (σ 0 (9 + x3)) then 0 else 1)) fun x2_1 => zk_n (α := Int) (x3 + 1) fun x3_2 => some (.inl (x2_1, x3_2))))))
def zm_lesserThan_j39 (N : Nat) (x2 : Int) (σ : ZS) : Option (Int) :=
  some x2
def zm_lesserThan (N : Nat) (p1 : Int) (σ : ZS) : Option (Int) :=
  zk_b (zk_loop (α := Int × Int) (β := Int) N (fun a => zm_lesserThan_b4 N p1 a.1 a.2 σ) (0, 0)) (fun e => zm_lesserThan_j39 N e σ)
def zm_mark (N : Nat) (p1 p2 : Int) (σ : ZS) : Option (Int × ZS) :=
  zk_b (zm_isOne p1 σ) fun v1 => zk_g (zk_R v1) (if v1 = 0 then (some ((-1), σ)) else (zk_g (zk_R p2) (zk_b (zm_in p2 1 5) fun v2 => zk_g (zk_R v2) (if v2 = 0 then (some ((-1), σ)) else (zk_b (zm_isOf p1 p2 σ) fun v3 => zk_g (zk_R v3) (if v3 = 0 then (zk_b2 (zm_find 3 σ) fun v10 s11 => some (v10, s11)) else (zk_g (0 ≤ (9 + p1) ∧ (9 + p1) < 3305) (zk_n (α := Int) (σ 0 (9 + p1)) fun x3_4 => zk_g (zk_R p2) (if p2 = 1 then (zk_g (0 ≤ (1 : Int) ∧ (1 : Int) < 3305) (zk_b (zm_daresBy 1 x3_4 (σ 0 1 + 1) 0) fun v5 => some (v5, σ))) else if p2 = 2 then (zk_g (zk_R x3_4) (some (if 5 ≤ x3_4 then 0 else 5 - x3_4, σ))) else if p2 = 3 then (zk_b (zm_lesserThan N x3_4 σ) fun v6 => some (v6, σ)) else if p2 = 4 then (zk_b (zm_farOf 0 p1 σ) fun v7 => zk_b (zm_daresBy 4 0 0 v7) fun v8 => some (v8, σ)) else (zk_b (zm_daresBy 2 x3_4 0 0) fun v9 => some (v9, σ)))))))))))
def zm_keepPast_b2 (N : Nat) (x1 : Int) (s0 : ZS) : Option ((Int × ZS) ⊕ (ZS)) :=
  zk_g (zk_R x1) (if 20 ≤ x1 then (some (.inr (s0))) else (zk_g (0 ≤ (0 : Int) ∧ (0 : Int) < 3305) (zk_g (0 ≤ (1 + x1) ∧ (1 + x1) < 3305) (zk_g (0 ≤ (21 + (20 * (s0 0 0)) + x1) ∧ (21 + (20 * (s0 0 0)) + x1) < 3305) (zk_n (zk_u s0 0 (21 + (20 * (s0 0 0)) + x1) (s0 0 (1 + x1))) fun s1 => zk_n (α := Int) (x1 + 1) fun x1_2 => some (.inl (x1_2, s1)))))))
def zm_keepPast_j41 (N : Nat) (s0 : ZS) : Option (Int × ZS) :=
  zk_g (0 ≤ (0 : Int) ∧ (0 : Int) < 3305) (zk_g (0 ≤ (0 : Int) ∧ (0 : Int) < 3305) (zk_n (zk_u s0 0 0 (s0 0 0 + 1)) fun s3 => some (0, s3)))
def zm_keepPast (N : Nat) (σ : ZS) : Option (Int × ZS) :=
  zk_b (zk_loop (α := Int × ZS) (β := ZS) N (fun a => zm_keepPast_b2 N a.1 a.2) (0, σ)) (fun e => zm_keepPast_j41 N e)
def zm_has (p0 p1 : Int) : Option (Int) :=
  zk_g (zk_R p0 ∧ (0 ≤ p1 ∧ p1 < 32)) (zk_g (zk_R (zk_and (p0 / 2 ^ p1.toNat) 1)) (some (if (zk_and (p0 / 2 ^ p1.toNat) 1) = 1 then 1 else 0)))
def zm_boldest_j81 (N : Nat) (x1 x2 x3 x4 x5 x6 y0 : Int) (σ : ZS) : Option ((Int × Int × Int) ⊕ (Int)) :=
  zk_g (zk_R y0) (zk_n (α := Int) (if y0 = 0 then x3 else x5) fun x3_5 => zk_g (zk_R y0) (zk_n (α := Int) (if y0 = 0 then x4 else x6) fun x4_6 => zk_n (α := Int) (x5 + 1) fun x5_7 => some (.inl (x3_5, x4_6, x5_7))))
def zm_boldest_j80 (N : Nat) (x1 x2 x3 x4 x5 x6 : Int) (σ : ZS) : Option ((Int × Int × Int) ⊕ (Int)) :=
  zm_boldest_j81 N x1 x2 x3 x4 x5 x6 0 σ
def zm_boldest_j38 (N : Nat) (x1 x2 x3 x4 x5 y0 : Int) (σ : ZS) : Option ((Int × Int × Int) ⊕ (Int)) :=
  zk_g (zk_R y0 ∧ zk_R x4) (if x4 < y0 then (zm_boldest_j81 N x1 x2 x3 x4 x5 y0 1 σ) else (zk_g (zk_R y0 ∧ zk_R x4) (if y0 = x4 then (zk_g (zk_R x3) (if x3 = (-9) then (zm_boldest_j80 N x1 x2 x3 x4 x5 y0 σ) else (zk_b (zm_farOf x1 x5 σ) fun v3 => zk_b (zm_farOf x1 x3 σ) fun v4 => zk_g (zk_R v3 ∧ zk_R v4) (if v4 ≤ v3 then (zm_boldest_j80 N x1 x2 x3 x4 x5 y0 σ) else (zm_boldest_j81 N x1 x2 x3 x4 x5 y0 1 σ))))) else (zm_boldest_j80 N x1 x2 x3 x4 x5 y0 σ))))
def zm_boldest_b9 (N : Nat) (x1 x2 x3 x4 x5 : Int) (σ : ZS) : Option ((Int × Int × Int) ⊕ (Int)) :=
  zk_g (zk_R x5 ∧ zk_R (σ 1 0)) (if (σ 1 0) ≤ x5 then (some (.inr (x3))) else (zk_b (zm_has x2 x5) fun v1 => zk_g (zk_R v1) (if v1 = 0 then (zk_b (zm_daresIn x1 x5 σ) fun v2 => zm_boldest_j38 N x1 x2 x3 x4 x5 v2 σ) else (zm_boldest_j38 N x1 x2 x3 x4 x5 0 σ))))
def zm_boldest_j115 (N : Nat) (x3 : Int) (σ : ZS) : Option (Int) :=
  some x3
def zm_boldest (N : Nat) (p1 p2 : Int) (σ : ZS) : Option (Int) :=
  zk_b (zk_loop (α := Int × Int × Int) (β := Int) N (fun a => zm_boldest_b9 N p1 p2 a.1 a.2.1 a.2.2 σ) ((-9), 0, 0)) (fun e => zm_boldest_j115 N e σ)
def zm_fades (p1 : Int) (σ : ZS) : Option (Int) :=
  zk_g (0 ≤ p1 ∧ p1 < 6) (zk_g (zk_R (σ 2 p1)) (if (σ 2 p1) = 3 then (some 0) else (zk_g (0 ≤ p1 ∧ p1 < 6) (zk_g (zk_R (σ 2 p1)) (if (σ 2 p1) = 4 then (some 0) else (zk_g (0 ≤ p1 ∧ p1 < 6) (zk_g (zk_R (σ 2 p1)) (if (σ 2 p1) = 2 then (some 2) else (zk_g (0 ≤ p1 ∧ p1 < 6) (zk_g (zk_R (σ 2 p1)) (if (σ 2 p1) = 5 then (some 2) else (some 1))))))))))))
def zm_passes_j81 (N : Nat) (x1 x2 x3 y0 y1 : Int) (s0 : ZS) : Option ((Int × ZS) ⊕ (ZS)) :=
  zk_n (α := Int) (y0 - y1) fun x4_5 => zk_g (zk_R x4_5) (zk_g (0 ≤ (x1 + 9 + x3) ∧ (x1 + 9 + x3) < 3305) (zk_n (zk_u s0 0 (x1 + 9 + x3) (if 0 ≤ x4_5 then x4_5 else 0)) fun s6 => zk_n (α := Int) (x3 + 1) fun x3_7 => some (.inl (x3_7, s6))))
def zm_passes_b48 (N : Nat) (x1 x2 x3 : Int) (s0 : ZS) : Option ((Int × ZS) ⊕ (ZS)) :=
  zk_g (zk_R x3 ∧ zk_R (s0 1 0)) (if (s0 1 0) ≤ x3 then (some (.inr (s0))) else (zk_g (0 ≤ (x1 + 9 + x3) ∧ (x1 + 9 + x3) < 3305) (zk_g (zk_R x3 ∧ zk_R x2) (if x3 = x2 then (zm_passes_j81 N x1 x2 x3 (s0 0 (x1 + 9 + x3)) 2 s0) else (zk_b (zm_fades x3 s0) fun v4 => zm_passes_j81 N x1 x2 x3 (s0 0 (x1 + 9 + x3)) v4 s0)))))
def zm_passes_j112 (N : Nat) (x1 x2 : Int) (s0 : ZS) : Option (Int × ZS) :=
  zk_g (0 ≤ (x1 + 1) ∧ (x1 + 1) < 3305) (zk_g (0 ≤ (x1 + 1) ∧ (x1 + 1) < 3305) (zk_n (zk_u s0 0 (x1 + 1) (s0 0 (x1 + 1) + 1)) fun s8 => some (x2, s8)))
def zm_passes_j46 (N : Nat) (x1 x2 : Int) (s0 : ZS) : Option (Int × ZS) :=
  zk_b (zk_loop (α := Int × ZS) (β := ZS) N (fun a => zm_passes_b48 N x1 x2 a.1 a.2) (0, s0)) (fun e => zm_passes_j112 N x1 x2 e)
def zm_passes (N : Nat) (p1 : Int) (σ : ZS) : Option (Int × ZS) :=
  zk_b (zm_boldest N p1 0 σ) fun v1 => zk_g (zk_R v1) (if v1 = (-9) then (zm_passes_j46 N p1 v1 σ) else (zk_g (0 ≤ (p1 + 3 + v1) ∧ (p1 + 3 + v1) < 3305) (zk_g (0 ≤ (p1 + 2) ∧ (p1 + 2) < 3305) (zk_n (zk_u σ 0 (p1 + 2) (σ 0 (p1 + 3 + v1))) fun s2 => zk_g (0 ≤ (p1 + 15 + v1) ∧ (p1 + 15 + v1) < 3305) (zk_g (0 ≤ (p1 + 15 + v1) ∧ (p1 + 15 + v1) < 3305) (zk_n (zk_u s2 0 (p1 + 15 + v1) (s2 0 (p1 + 15 + v1) + 1)) fun s3 => zm_passes_j46 N p1 v1 s3))))))
def zm_night (N : Nat) (σ : ZS) : Option (Int × ZS) :=
  zk_g (zk_R (σ 1 0)) (if (σ 1 0) = 0 then (some ((-4), σ)) else (zk_g (0 ≤ (0 : Int) ∧ (0 : Int) < 3305) (zk_g (zk_R (σ 0 0)) (if (σ 0 0) = 40 then (some ((-2), σ)) else (zk_b2 (zm_keepPast N σ) fun v1 s2 => zk_b2 (zm_passes N 0 s2) fun v3 s4 => some (v3, s4))))))
def zm_makeDaring (N : Nat) (p1 p2 : Int) (σ : ZS) : Option (Int × ZS) :=
  zk_g (zk_R p2) (zk_b (zm_in p2 0 20) fun v1 => zk_g (zk_R v1) (if v1 = 0 then (some ((-4), σ)) else (zk_g (0 ≤ (0 : Int) ∧ (0 : Int) < 3305) (zk_g (zk_R (σ 0 0)) (if (σ 0 0) = 40 then (some ((-2), σ)) else (zk_b2 (zm_keepPast N σ) fun v2 s3 => zk_g (0 ≤ (9 + p1) ∧ (9 + p1) < 3305) (zk_n (zk_u s3 0 (9 + p1) p2) fun s4 => some (p2, s4))))))))
def zm_raise (N : Nat) (p1 p2 : Int) (σ : ZS) : Option (Int × ZS) :=
  zk_b (zm_isOne p1 σ) fun v1 => zk_g (zk_R v1) (if v1 = 0 then (some ((-1), σ)) else (zk_g (zk_R p2) (zk_b (zm_in p2 1 9) fun v2 => zk_g (zk_R v2) (if v2 = 0 then (some ((-1), σ)) else (zk_g (0 ≤ (9 + p1) ∧ (9 + p1) < 3305) (zk_b2 (zm_makeDaring N p1 (σ 0 (9 + p1) + p2) σ) fun v3 s4 => some (v3, s4)))))))
def zm_shame (N : Nat) (p1 p2 : Int) (σ : ZS) : Option (Int × ZS) :=
  zk_b (zm_isOne p1 σ) fun v1 => zk_g (zk_R v1) (if v1 = 0 then (some ((-1), σ)) else (zk_g (zk_R p2) (zk_b (zm_in p2 1 9) fun v2 => zk_g (zk_R v2) (if v2 = 0 then (some ((-1), σ)) else (zk_g (0 ≤ (9 + p1) ∧ (9 + p1) < 3305) (zk_b2 (zm_makeDaring N p1 (σ 0 (9 + p1) - p2) σ) fun v3 s4 => some (v3, s4)))))))
def zm_door (N : Nat) (p1 p2 : Int) (σ : ZS) : Option (Int × ZS) :=
  zk_b (zm_isOne p1 σ) fun v1 => zk_g (zk_R v1) (if v1 = 0 then (some ((-1), σ)) else (zk_g (zk_R p2) (zk_b (zm_in p2 0 9) fun v2 => zk_g (zk_R v2) (if v2 = 0 then (some ((-1), σ)) else (zk_g (0 ≤ (3 + p1) ∧ (3 + p1) < 3305) (zk_n (α := Int) (σ 0 (3 + p1)) fun x3_3 => zk_g (zk_R x3_3 ∧ zk_R p2) (if x3_3 = p2 then (some ((-4), σ)) else (zk_g (0 ≤ (0 : Int) ∧ (0 : Int) < 3305) (zk_g (zk_R (σ 0 0)) (if (σ 0 0) = 40 then (some ((-2), σ)) else (zk_b2 (zm_keepPast N σ) fun v4 s5 => zk_g (0 ≤ (3 + p1) ∧ (3 + p1) < 3305) (zk_n (zk_u s5 0 (3 + p1) p2) fun s6 => some (x3_3, s6)))))))))))))
def zm_undo_b29 (N : Nat) (x1 x2 x3 : Int) (s0 : ZS) : Option ((Int × ZS) ⊕ (ZS)) :=
  zk_g (zk_R x3) (if 20 ≤ x3 then (some (.inr (s0))) else (zk_g (zk_R x2) (if x2 ≤ 0 then (some (.inr (s0))) else (zk_g (0 ≤ (21 + (20 * x1) + x3) ∧ (21 + (20 * x1) + x3) < 3305) (zk_g (0 ≤ (1 + x3) ∧ (1 + x3) < 3305) (zk_n (zk_u s0 0 (1 + x3) (s0 0 (21 + (20 * x1) + x3))) fun s3 => zk_n (α := Int) (x3 + 1) fun x3_4 => some (.inl (x3_4, s3))))))))
def zm_undo_j67 (N : Nat) (x1 x2 : Int) (s0 : ZS) : Option (Int × ZS) :=
  zk_g (0 ≤ (0 : Int) ∧ (0 : Int) < 3305) (zk_n (zk_u s0 0 0 x1) fun s5 => some (x2, s5))
def zm_undo (N : Nat) (p1 : Int) (σ : ZS) : Option (Int × ZS) :=
  zk_g (zk_R p1) (zk_g (0 ≤ (0 : Int) ∧ (0 : Int) < 3305) (zk_g (zk_R (σ 0 0)) (zk_b (zm_in p1 0 (σ 0 0)) fun v1 => zk_g (zk_R v1) (if v1 = 0 then (some ((-1), σ)) else (zk_g (0 ≤ (0 : Int) ∧ (0 : Int) < 3305) (zk_n (α := Int) (σ 0 0 - p1) fun x2_2 => zk_b (zk_loop (α := Int × ZS) (β := ZS) N (fun a => zm_undo_b29 N p1 x2_2 a.1 a.2) (0, σ)) (fun e => zm_undo_j67 N p1 x2_2 e)))))))
def zm_copyRiver_b2 (N : Nat) (x1 x2 x3 : Int) (s0 : ZS) : Option ((Int × ZS) ⊕ (ZS)) :=
  zk_g (zk_R x3) (if 821 ≤ x3 then (some (.inr (s0))) else (zk_g (0 ≤ (x1 + x3) ∧ (x1 + x3) < 3305) (zk_g (0 ≤ (x2 + x3) ∧ (x2 + x3) < 3305) (zk_n (zk_u s0 0 (x2 + x3) (s0 0 (x1 + x3))) fun s1 => zk_n (α := Int) (x3 + 1) fun x3_2 => some (.inl (x3_2, s1))))))
def zm_copyRiver_j31 (N : Nat) (s0 : ZS) : Option (Int × ZS) :=
  some (0, s0)
def zm_copyRiver (N : Nat) (p1 p2 : Int) (σ : ZS) : Option (Int × ZS) :=
  zk_b (zk_loop (α := Int × ZS) (β := ZS) N (fun a => zm_copyRiver_b2 N p1 p2 a.1 a.2) (0, σ)) (fun e => zm_copyRiver_j31 N e)
def zm_keep (N : Nat) (p1 : Int) (σ : ZS) : Option (Int × ZS) :=
  zk_g (zk_R p1) (zk_b (zm_in p1 0 2) fun v1 => zk_g (zk_R v1) (if v1 = 0 then (some ((-1), σ)) else (zk_g (zk_R (σ 1 0)) (if (σ 1 0) = 0 then (some ((-4), σ)) else (zk_b2 (zm_copyRiver N 0 (821 * (1 + p1)) σ) fun v2 s3 => zk_g (0 ≤ (0 : Int) ∧ (0 : Int) < 3305) (some (s3 0 0, s3)))))))
def zm_on (N : Nat) (p1 : Int) (σ : ZS) : Option (Int × ZS) :=
  zk_g (zk_R p1) (zk_b (zm_in p1 0 2) fun v1 => zk_g (zk_R v1) (if v1 = 0 then (some ((-1), σ)) else (zk_g (0 ≤ (821 * (1 + p1) + 0) ∧ (821 * (1 + p1) + 0) < 3305) (zk_g (zk_R (σ 0 (821 * (1 + p1) + 0))) (if 0 ≤ (σ 0 (821 * (1 + p1) + 0)) then (zk_b2 (zm_copyRiver N (821 * (1 + p1)) 0 σ) fun v2 s3 => zk_g (0 ≤ (0 : Int) ∧ (0 : Int) < 3305) (some (s3 0 0, s3))) else (zk_b2 (zm_find 1 σ) fun v4 s5 => some (v4, s5)))))))
def zm_dares (p1 p2 p3 p4 : Int) (σ : ZS) : Option (Int) :=
  zk_b (zm_isOne p1 σ) fun v1 => zk_g (zk_R v1) (if v1 = 0 then (some (-1)) else (zk_g (zk_R p2) (zk_b (zm_in p2 0 20) fun v2 => zk_g (zk_R v2) (if v2 = 0 then (some (-1)) else (zk_g (zk_R p3) (zk_b (zm_in p3 0 99) fun v3 => zk_g (zk_R v3) (if v3 = 0 then (some (-1)) else (zk_g (zk_R p4) (zk_b (zm_in p4 0 9) fun v4 => zk_g (zk_R v4) (if v4 = 0 then (some (-1)) else (zk_g (0 ≤ p1 ∧ p1 < 6) (zk_b (zm_daresBy (σ 2 p1) p2 p3 p4) fun v5 => some v5))))))))))))
def zm_layTried_b2 (N : Nat) (x1 : Int) (s0 : ZS) : Option ((Int × ZS) ⊕ (ZS)) :=
  zk_g (zk_R x1) (if 21 ≤ x1 then (some (.inr (s0))) else (zk_g (0 ≤ x1 ∧ x1 < 3305) (zk_g (0 ≤ (3284 + x1) ∧ (3284 + x1) < 3305) (zk_n (zk_u s0 0 (3284 + x1) (s0 0 x1)) fun s1 => zk_n (α := Int) (x1 + 1) fun x1_2 => some (.inl (x1_2, s1))))))
def zm_layTried_j30 (N : Nat) (s0 : ZS) : Option (Int × ZS) :=
  some (0, s0)
def zm_layTried (N : Nat) (σ : ZS) : Option (Int × ZS) :=
  zk_b (zk_loop (α := Int × ZS) (β := ZS) N (fun a => zm_layTried_b2 N a.1 a.2) (0, σ)) (fun e => zm_layTried_j30 N e)
def zm_where_b36 (N : Nat) (x1 x2 : Int) (s0 : ZS) : Option ((Int × ZS) ⊕ (ZS)) :=
  zk_g (zk_R x2 ∧ zk_R x1) (if x1 ≤ x2 then (some (.inr (s0))) else (zk_b2 (zm_passes N 3284 s0) fun v5 s6 => zk_n (zk_u s6 7 0 v5) fun s7 => zk_n (α := Int) (x2 + 1) fun x2_8 => some (.inl (x2_8, s7))))
def zm_where_j58 (N : Nat) (s0 : ZS) : Option (Int × ZS) :=
  zk_g (0 ≤ (3286 : Int) ∧ (3286 : Int) < 3305) (some (s0 0 3286, s0))
def zm_where (N : Nat) (p1 : Int) (σ : ZS) : Option (Int × ZS) :=
  zk_g (zk_R p1) (zk_b (zm_in p1 0 40) fun v1 => zk_g (zk_R v1) (if v1 = 0 then (some ((-1), σ)) else (zk_g (zk_R (σ 1 0)) (if (σ 1 0) = 0 then (some ((-4), σ)) else (zk_b2 (zm_layTried N σ) fun v2 s3 => zk_n (zk_u s3 7 0 (-9)) fun s4 => zk_b (zk_loop (α := Int × ZS) (β := ZS) N (fun a => zm_where_b36 N p1 a.1 a.2) (0, s4)) (fun e => zm_where_j58 N e))))))
def zm_crosses_b28 (N : Nat) (x1 x2 x3 : Int) (s0 : ZS) : Option ((Int × ZS) ⊕ (ZS)) :=
  zk_g (zk_R x3 ∧ zk_R x2) (if x2 ≤ x3 then (some (.inr (s0))) else (zk_b2 (zm_passes N 3284 s0) fun v5 s6 => zk_n (α := Int) (x3 + 1) fun x3_7 => some (.inl (x3_7, s6))))
def zm_crosses_j47 (N : Nat) (x1 : Int) (s0 : ZS) : Option (Int × ZS) :=
  zk_g (0 ≤ (3299 + x1) ∧ (3299 + x1) < 3305) (zk_g (0 ≤ (15 + x1) ∧ (15 + x1) < 3305) (some (s0 0 (3299 + x1) - (s0 0 (15 + x1)), s0)))
def zm_crosses (N : Nat) (p1 p2 : Int) (σ : ZS) : Option (Int × ZS) :=
  zk_b (zm_isOne p1 σ) fun v1 => zk_g (zk_R v1) (if v1 = 0 then (some ((-1), σ)) else (zk_g (zk_R p2) (zk_b (zm_in p2 0 40) fun v2 => zk_g (zk_R v2) (if v2 = 0 then (some ((-1), σ)) else (zk_b2 (zm_layTried N σ) fun v3 s4 => zk_b (zk_loop (α := Int × ZS) (β := ZS) N (fun a => zm_crosses_b28 N p1 p2 a.1 a.2) (0, s4)) (fun e => zm_crosses_j47 N p1 e))))))
def zm_first_b16 (N : Nat) (x1 x2 : Int) (s0 : ZS) : Option ((Int × ZS) ⊕ ((ZS) ⊕ (Int × ZS))) :=
  zk_g (zk_R x2) (if 41 ≤ x2 then (some (.inr (.inl (s0)))) else (zk_b2 (zm_passes N 3284 s0) fun v4 s5 => zk_g (zk_R v4 ∧ zk_R x1) (if v4 = x1 then (some (.inr (.inr (x2, s5)))) else (zk_n (α := Int) (x2 + 1) fun x2_6 => some (.inl (x2_6, s5))))))
def zm_first_j41 (N : Nat) (s0 : ZS) : Option (Int × ZS) :=
  some ((-9), s0)
def zm_first (N : Nat) (p1 : Int) (σ : ZS) : Option (Int × ZS) :=
  zk_b (zm_isOne p1 σ) fun v1 => zk_g (zk_R v1) (if v1 = 0 then (some ((-1), σ)) else (zk_b2 (zm_layTried N σ) fun v2 s3 => zk_b (zk_loop (α := Int × ZS) (β := (ZS) ⊕ (Int × ZS)) N (fun a => zm_first_b16 N p1 a.1 a.2) (1, s3)) (zk_lr1 (fun e => zm_first_j41 N e))))
def zm_hasBy_b22 (N : Nat) (x3 x4 x5 : Int) (s0 : ZS) : Option ((Int × Int × ZS) ⊕ (Int × ZS)) :=
  zk_g (zk_R x5 ∧ zk_R x3) (if x3 ≤ x5 then (some (.inr (x4, s0))) else (zk_b2 (zm_passes N 3284 s0) fun v4 s5 => zk_n (α := Int) (x5 + 1) fun x5_6 => some (.inl (v4, x5_6, s5))))
def zm_hasBy_j43 (N : Nat) (x4 : Int) (s0 : ZS) : Option (Int × ZS) :=
  some (x4, s0)
def zm_hasBy (N : Nat) (p1 p2 p3 : Int) (σ : ZS) : Option (Int × ZS) :=
  zk_b2 (zm_layTried N σ) fun v1 s2 => zk_g (0 ≤ (3293 + p1) ∧ (3293 + p1) < 3305) (zk_n (zk_u s2 0 (3293 + p1) p2) fun s3 => zk_b (zk_loop (α := Int × Int × ZS) (β := Int × ZS) N (fun a => zm_hasBy_b22 N p3 a.1 a.2.1 a.2.2) ((-9), 0, s3)) (fun e => zm_hasBy_j43 N e.1 e.2))
def zm_lift_b24 (N : Nat) (x1 x2 x3 : Int) (s0 : ZS) : Option ((Int × ZS) ⊕ ((ZS) ⊕ (Int × ZS))) :=
  zk_g (0 ≤ (9 + x1) ∧ (9 + x1) < 3305) (zk_g (zk_R (s0 0 (9 + x1) + x3)) (if 21 ≤ (s0 0 (9 + x1) + x3) then (some (.inr (.inl (s0)))) else (zk_g (0 ≤ (9 + x1) ∧ (9 + x1) < 3305) (zk_b2 (zm_hasBy N x1 (s0 0 (9 + x1) + x3) x2 s0) fun v3 s4 => zk_g (zk_R v3 ∧ zk_R x1) (if v3 = x1 then (some (.inr (.inr (x3, s4)))) else (zk_n (α := Int) (x3 + 1) fun x3_5 => some (.inl (x3_5, s4))))))))
def zm_lift_j69 (N : Nat) (s0 : ZS) : Option (Int × ZS) :=
  some ((-9), s0)
def zm_lift (N : Nat) (p1 p2 : Int) (σ : ZS) : Option (Int × ZS) :=
  zk_b (zm_isOne p1 σ) fun v1 => zk_g (zk_R v1) (if v1 = 0 then (some ((-1), σ)) else (zk_g (zk_R p2) (zk_b (zm_in p2 1 20) fun v2 => zk_g (zk_R v2) (if v2 = 0 then (some ((-1), σ)) else (zk_b (zk_loop (α := Int × ZS) (β := (ZS) ⊕ (Int × ZS)) N (fun a => zm_lift_b24 N p1 p2 a.1 a.2) (0, σ)) (zk_lr1 (fun e => zm_lift_j69 N e)))))))
def zm_isAhead_j65 (x2 x5 y0 : Int) (σ : ZS) : Option (Int) :=
  zk_g (zk_R x5 ∧ zk_R x2) (if x5 < x2 then (some 1) else (zk_g (zk_R x5 ∧ zk_R x2) (if x5 = x2 then (zk_g (zk_R y0) (if y0 = 0 then (some 0) else (some 1))) else (some 0))))
def zm_isAhead_j64 (x2 x5 : Int) (σ : ZS) : Option (Int) :=
  zm_isAhead_j65 x2 x5 0 σ
def zm_isAhead (p1 p2 p3 p4 : Int) (σ : ZS) : Option (Int) :=
  zk_g (0 ≤ p3 ∧ p3 < 6) (zk_g (0 ≤ (1 : Int) ∧ (1 : Int) < 3305) (zk_b (zm_farOf 0 p3 σ) fun v1 => zk_b (zm_daresBy (σ 2 p3) p4 (σ 0 1) v1) fun v2 => zk_b (zm_farOf 0 p1 σ) fun v3 => zk_b (zm_farOf 0 p3 σ) fun v4 => zk_g (zk_R v3 ∧ zk_R v4) (if v3 < v4 then (zm_isAhead_j65 p2 v2 1 σ) else (zk_b (zm_farOf 0 p1 σ) fun v5 => zk_b (zm_farOf 0 p3 σ) fun v6 => zk_g (zk_R v5 ∧ zk_R v6) (if v5 = v6 then (zk_g (zk_R p1 ∧ zk_R p3) (if p3 ≤ p1 then (zm_isAhead_j64 p2 v2 σ) else (zm_isAhead_j65 p2 v2 1 σ))) else (zm_isAhead_j64 p2 v2 σ))))))
def zm_shamed_b3 (N : Nat) (x1 x2 x3 x4 : Int) (σ : ZS) : Option ((Int) ⊕ ((Unit) ⊕ (Int))) :=
  zk_g (0 ≤ (9 + x3) ∧ (9 + x3) < 3305) (zk_g (zk_R x4 ∧ zk_R (σ 0 (9 + x3))) (if (σ 0 (9 + x3)) < x4 then (some (.inr (.inl ()))) else (zk_g (0 ≤ (9 + x3) ∧ (9 + x3) < 3305) (zk_b (zm_isAhead x1 x2 x3 (σ 0 (9 + x3) - x4) σ) fun v1 => zk_g (zk_R v1) (if v1 = 0 then (zk_n (α := Int) (x4 + 1) fun x4_2 => some (.inl (x4_2))) else (some (.inr (.inr x4))))))))
def zm_shamed_j48 (N : Nat) (σ : ZS) : Option (Int) :=
  some (-9)
def zm_shamed (N : Nat) (p1 p2 p3 : Int) (σ : ZS) : Option (Int) :=
  zk_b (zk_loop (α := Int) (β := (Unit) ⊕ (Int)) N (fun a => zm_shamed_b3 N p1 p2 p3 a σ) (0)) (zk_lr1 (fun e => zm_shamed_j48 N σ))
def zm_together_j109 (N : Nat) (x1 x2 x3 x5 y0 y1 : Int) (s0 : ZS) : Option ((Int × Int × ZS) ⊕ (Int × ZS)) :=
  zk_n (α := Int) (y0 + y1) fun x4_5 => zk_n (α := Int) (x5 + 1) fun x5_6 => some (.inl (x4_5, x5_6, s0))
def zm_together_j72 (N : Nat) (x1 x2 x3 x4 x5 y0 y1 : Int) (s0 : ZS) : Option ((Int × Int × ZS) ⊕ (Int × ZS)) :=
  zk_g (0 ≤ y0 ∧ y0 < 6) (zk_n (zk_u s0 18 y0 y1) fun s4 => zk_g (0 ≤ x5 ∧ x5 < 6) (zk_g (zk_R (s4 18 x5)) (if (s4 18 x5) = (-9) then (zm_together_j109 N x1 x2 x3 x5 x4 99999 s4) else (zk_g (zk_R x5 ∧ zk_R x1) (if x5 = x1 then (zm_together_j109 N x1 x2 x3 x5 x4 0 s4) else (zk_g (0 ≤ x5 ∧ x5 < 6) (zm_together_j109 N x1 x2 x3 x5 x4 (s4 18 x5) s4)))))))
def zm_together_b39 (N : Nat) (x1 x2 x3 x4 x5 : Int) (s0 : ZS) : Option ((Int × Int × ZS) ⊕ (Int × ZS)) :=
  zk_g (zk_R x5 ∧ zk_R (s0 1 0)) (if (s0 1 0) ≤ x5 then (some (.inr (x4, s0))) else (zk_g (zk_R x5 ∧ zk_R x1) (if x5 = x1 then (zm_together_j72 N x1 x2 x3 x4 x5 x5 x2 s0) else (zk_b (zm_shamed N x1 x3 x5 s0) fun v3 => zm_together_j72 N x1 x2 x3 x4 x5 x5 v3 s0))))
def zm_together_j118 (N : Nat) (x3 x4 : Int) (s0 : ZS) : Option (Int × ZS) :=
  zk_g (zk_R x3) (if x3 ≤ 0 then (some (99999, s0)) else (some (x4, s0)))
def zm_together (N : Nat) (p1 p2 : Int) (σ : ZS) : Option (Int × ZS) :=
  zk_g (0 ≤ p1 ∧ p1 < 6) (zk_g (0 ≤ (9 + p1) ∧ (9 + p1) < 3305) (zk_g (0 ≤ (1 : Int) ∧ (1 : Int) < 3305) (zk_b (zm_farOf 0 p1 σ) fun v1 => zk_b (zm_daresBy (σ 2 p1) (σ 0 (9 + p1) + p2) (σ 0 1) v1) fun v2 => zk_b (zk_loop (α := Int × Int × ZS) (β := Int × ZS) N (fun a => zm_together_b39 N p1 p2 v2 a.1 a.2.1 a.2.2) (p2, 0, σ)) (fun e => zm_together_j118 N v2 e.1 e.2))))
def zm_cheap_j90 (N : Nat) (x1 x2 x3 x4 : Int) (s0 : ZS) : Option ((Int × Int × ZS) ⊕ (Int × ZS)) :=
  zk_n (α := Int) (x4 + 1) fun x4_5 => some (.inl (x3, x4_5, s0))
def zm_cheap_b61 (N : Nat) (x1 x2 x3 x4 x6 : Int) (s0 : ZS) : Option ((Int × ZS) ⊕ (ZS)) :=
  zk_g (zk_R x6 ∧ zk_R (s0 1 0)) (if (s0 1 0) ≤ x6 then (some (.inr (s0))) else (zk_g (0 ≤ x6 ∧ x6 < 6) (zk_g (0 ≤ x6 ∧ x6 < 6) (zk_n (zk_u s0 19 x6 (s0 18 x6)) fun s6 => zk_n (α := Int) (x6 + 1) fun x6_7 => some (.inl (x6_7, s6))))))
def zm_cheap_b23 (N : Nat) (x1 x2 x3 x4 : Int) (s0 : ZS) : Option ((Int × Int × ZS) ⊕ (Int × ZS)) :=
  zk_g (0 ≤ (9 + x1) ∧ (9 + x1) < 3305) (zk_g (zk_R (s0 0 (9 + x1) + x4)) (if 21 ≤ (s0 0 (9 + x1) + x4) then (some (.inr (x3, s0))) else (zk_b2 (zm_together N x1 x4 s0) fun v3 s4 => zk_g (zk_R v3 ∧ zk_R x3) (if x3 ≤ v3 then (zm_cheap_j90 N x1 x2 x3 x4 s4) else (zk_b (zk_loop (α := Int × ZS) (β := ZS) N (fun a => zm_cheap_b61 N x1 x2 v3 x4 a.1 a.2) (0, s4)) (fun e => zm_cheap_j90 N x1 x2 v3 x4 e))))))
def zm_cheap_b117 (N : Nat) (x2 x3 x4 : Int) (s0 : ZS) : Option ((Int × ZS) ⊕ (ZS)) :=
  zk_g (zk_R x4 ∧ zk_R (s0 1 0)) (if (s0 1 0) ≤ x4 then (some (.inr (s0))) else (zk_g (0 ≤ x4 ∧ x4 < 6) (zk_g (0 ≤ (40 * x2 + x4) ∧ (40 * x2 + x4) < 240) (zk_n (zk_u s0 4 (40 * x2 + x4) (s0 19 x4)) fun s10 => zk_n (α := Int) (x4 + 1) fun x4_11 => some (.inl (x4_11, s10))))))
def zm_cheap_j151 (N : Nat) (x3 : Int) (s0 : ZS) : Option (Int × ZS) :=
  some (x3, s0)
def zm_cheap_j96 (N : Nat) (x2 x3 : Int) (s0 : ZS) : Option (Int × ZS) :=
  zk_g (zk_R x3) (if x3 = 99999 then (some ((-9), s0)) else (zk_b2 (zm_makeRow N x2 (s0 1 0) s0) fun v8 s9 => zk_b (zk_loop (α := Int × ZS) (β := ZS) N (fun a => zm_cheap_b117 N x2 x3 a.1 a.2) (0, s9)) (fun e => zm_cheap_j151 N x3 e)))
def zm_cheap (N : Nat) (p1 p2 : Int) (σ : ZS) : Option (Int × ZS) :=
  zk_b (zm_isOne p1 σ) fun v1 => zk_g (zk_R v1) (if v1 = 0 then (some ((-1), σ)) else (zk_b (zm_isRow p2) fun v2 => zk_g (zk_R v2) (if v2 = 0 then (some ((-1), σ)) else (zk_b (zk_loop (α := Int × Int × ZS) (β := Int × ZS) N (fun a => zm_cheap_b23 N p1 p2 a.1 a.2.1 a.2.2) (99999, 0, σ)) (fun e => zm_cheap_j96 N p2 e.1 e.2)))))
def zm_noRow_j79 (N : Nat) (x1 x3 y0 : Int) (s0 : ZS) : Option ((Int × Int) ⊕ (Int)) :=
  zk_n (α := Int) (x3 + 1) fun x3_7 => some (.inl (y0, x3_7))
def zm_noRow_j78 (N : Nat) (x1 x3 : Int) (s0 : ZS) : Option ((Int × Int) ⊕ (Int)) :=
  zm_noRow_j79 N x1 x3 0 s0
def zm_noRow_b42 (N : Nat) (x1 x2 x3 : Int) (s0 : ZS) : Option ((Int × Int) ⊕ (Int)) :=
  zk_g (0 ≤ x1 ∧ x1 < 6) (zk_g (zk_R x3 ∧ zk_R (s0 3 x1)) (if (s0 3 x1) ≤ x3 then (some (.inr (x2))) else (zk_g (zk_R x2) (if x2 = 0 then (zm_noRow_j78 N x1 x3 s0) else (zk_g (0 ≤ (40 * x1 + x3) ∧ (40 * x1 + x3) < 240) (zk_b (zm_isOne (s0 4 (40 * x1 + x3)) s0) fun v6 => zk_g (zk_R v6) (if v6 = 0 then (zm_noRow_j78 N x1 x3 s0) else (zm_noRow_j79 N x1 x3 1 s0))))))))
def zm_noRow_j86 (N : Nat) (x2 : Int) (s0 : ZS) : Option (Int × ZS) :=
  zk_g (zk_R x2) (if x2 = 0 then (zk_b2 (zm_find 3 s0) fun v8 s9 => some (v8, s9)) else (some (0, s0)))
def zm_noRow (N : Nat) (p1 : Int) (σ : ZS) : Option (Int × ZS) :=
  zk_g (0 ≤ p1 ∧ p1 < 6) (zk_g (zk_R (σ 3 p1)) (if 0 ≤ (σ 3 p1) then (zk_g (0 ≤ p1 ∧ p1 < 6) (zk_g (zk_R (σ 3 p1)) (zk_b (zm_in (σ 3 p1) 1 10) fun v1 => zk_g (zk_R v1) (if v1 = 0 then (zk_b2 (zm_find 5 σ) fun v2 s3 => some (v2, s3)) else (zk_b (zk_loop (α := Int × Int) (β := Int) N (fun a => zm_noRow_b42 N p1 a.1 a.2 σ) (1, 0)) (fun e => zm_noRow_j86 N e σ)))))) else (zk_b2 (zm_find 1 σ) fun v4 s5 => some (v4, s5))))
def zm_isSo_j44 (N : Nat) (x1 x3 y0 : Int) (s0 : ZS) : Option ((Int × Int × ZS) ⊕ (Int × ZS)) :=
  zk_n (α := Int) (x3 + 1) fun x3_3 => some (.inl (y0, x3_3, s0))
def zm_isSo_j43 (N : Nat) (x1 x3 : Int) (s0 : ZS) : Option ((Int × Int × ZS) ⊕ (Int × ZS)) :=
  zm_isSo_j44 N x1 x3 0 s0
def zm_isSo_b4 (N : Nat) (x1 x2 x3 : Int) (s0 : ZS) : Option ((Int × Int × ZS) ⊕ (Int × ZS)) :=
  zk_g (0 ≤ x1 ∧ x1 < 6) (zk_g (zk_R x3 ∧ zk_R (s0 3 x1)) (if (s0 3 x1) ≤ x3 then (some (.inr (x2, s0))) else (zk_g (zk_R x2) (if x2 = 0 then (zm_isSo_j43 N x1 x3 s0) else (zk_b2 (zm_passes N 3284 s0) fun v1 s2 => zk_g (0 ≤ (40 * x1 + x3) ∧ (40 * x1 + x3) < 240) (zk_g (zk_R v1 ∧ zk_R (s2 4 (40 * x1 + x3))) (if v1 = (s2 4 (40 * x1 + x3)) then (zm_isSo_j44 N x1 x3 1 s2) else (zm_isSo_j43 N x1 x3 s2))))))))
def zm_isSo_j51 (N : Nat) (x2 : Int) (s0 : ZS) : Option (Int × ZS) :=
  zk_g (x2 = 0 ∨ x2 = 1) (some (x2, s0))
def zm_isSo (N : Nat) (p1 : Int) (σ : ZS) : Option (Int × ZS) :=
  zk_b (zk_loop (α := Int × Int × ZS) (β := Int × ZS) N (fun a => zm_isSo_b4 N p1 a.1 a.2.1 a.2.2) (1, 0, σ)) (fun e => zm_isSo_j51 N e.1 e.2)
def zm_daringsBy_j45 (N : Nat) (x1 x2 x4 y0 y1 : Int) (s0 : ZS) : Option ((Int × Int × ZS) ⊕ (Int × ZS)) :=
  zk_n (α := Int) (zk_or y0 y1) fun x3_6 => zk_n (α := Int) (x4 + 1) fun x4_7 => some (.inl (x3_6, x4_7, s0))
def zm_daringsBy_b5 (N : Nat) (x1 x2 x3 x4 : Int) (s0 : ZS) : Option ((Int × Int × ZS) ⊕ (Int × ZS)) :=
  zk_g (zk_R x4) (if 21 ≤ x4 then (some (.inr (x3, s0))) else (zk_b2 (zm_layTried N s0) fun v1 s2 => zk_g (0 ≤ (3293 + x1) ∧ (3293 + x1) < 3305) (zk_n (zk_u s2 0 (3293 + x1) x4) fun s3 => zk_b2 (zm_isSo N x2 s3) fun v4 s5 => zk_g (zk_R v4) (if v4 = 0 then (zm_daringsBy_j45 N x1 x2 x4 x3 0 s5) else (zk_g (0 ≤ x4 ∧ x4 < 31) (zm_daringsBy_j45 N x1 x2 x4 x3 (1 * 2 ^ x4.toNat) s5))))))
def zm_daringsBy_j53 (N : Nat) (x3 : Int) (s0 : ZS) : Option (Int × ZS) :=
  some (x3, s0)
def zm_daringsBy (N : Nat) (p1 p2 : Int) (σ : ZS) : Option (Int × ZS) :=
  zk_b (zk_loop (α := Int × Int × ZS) (β := Int × ZS) N (fun a => zm_daringsBy_b5 N p1 p2 a.1 a.2.1 a.2.2) (0, 0, σ)) (fun e => zm_daringsBy_j53 N e.1 e.2)
def zm_darings (N : Nat) (p1 p2 : Int) (σ : ZS) : Option (Int × ZS) :=
  zk_b (zm_isOne p1 σ) fun v1 => zk_g (zk_R v1) (if v1 = 0 then (some ((-1), σ)) else (zk_b (zm_isRow p2) fun v2 => zk_g (zk_R v2) (if v2 = 0 then (some ((-1), σ)) else (zk_b2 (zm_noRow N p2 σ) fun v3 s4 => zk_g (zk_R v3) (if v3 = 0 then (zk_b2 (zm_daringsBy N p1 p2 s4) fun v5 s6 => some (v5, s6)) else (some (v3, s4)))))))
def zm_kinds_j80 (N : Nat) (x1 x2 x4 x6 y0 y1 : Int) (s0 : ZS) : Option ((Int × Int × ZS) ⊕ (Int × ZS)) :=
  zk_n (α := Int) (zk_or y0 y1) fun x5_11 => zk_n (α := Int) (x6 + 1) fun x6_12 => some (.inl (x5_11, x6_12, s0))
def zm_kinds_b43 (N : Nat) (x1 x2 x4 x5 x6 : Int) (s0 : ZS) : Option ((Int × Int × ZS) ⊕ (Int × ZS)) :=
  zk_g (zk_R x6) (if 6 ≤ x6 then (some (.inr (x5, s0))) else (zk_g (0 ≤ x1 ∧ x1 < 6) (zk_n (zk_u s0 2 x1 x6) fun s6 => zk_b2 (zm_layTried N s6) fun v7 s8 => zk_b2 (zm_isSo N x2 s8) fun v9 s10 => zk_g (zk_R v9) (if v9 = 0 then (zm_kinds_j80 N x1 x2 x4 x6 x5 0 s10) else (zk_g (0 ≤ x6 ∧ x6 < 31) (zm_kinds_j80 N x1 x2 x4 x6 x5 (1 * 2 ^ x6.toNat) s10))))))
def zm_kinds_j89 (N : Nat) (x1 x4 x5 : Int) (s0 : ZS) : Option (Int × ZS) :=
  zk_g (0 ≤ x1 ∧ x1 < 6) (zk_n (zk_u s0 2 x1 x4) fun s13 => some (x5, s13))
def zm_kinds (N : Nat) (p1 p2 : Int) (σ : ZS) : Option (Int × ZS) :=
  zk_b (zm_isOne p1 σ) fun v1 => zk_g (zk_R v1) (if v1 = 0 then (some ((-1), σ)) else (zk_b (zm_isRow p2) fun v2 => zk_g (zk_R v2) (if v2 = 0 then (some ((-1), σ)) else (zk_b2 (zm_noRow N p2 σ) fun v3 s4 => zk_g (zk_R v3) (if v3 = 0 then (zk_g (0 ≤ p1 ∧ p1 < 6) (zk_n (α := Int) (s4 2 p1) fun x4_5 => zk_b (zk_loop (α := Int × Int × ZS) (β := Int × ZS) N (fun a => zm_kinds_b43 N p1 p2 x4_5 a.1 a.2.1 a.2.2) (0, 0, s4)) (fun e => zm_kinds_j89 N p1 x4_5 e.1 e.2))) else (some (v3, s4)))))))
def zm_layParts_b2 (N : Nat) (x1 x2 x3 : Int) (s0 : ZS) : Option ((Int × ZS) ⊕ (ZS)) :=
  zk_g (zk_R x3) (if 147 ≤ x3 then (some (.inr (s0))) else (zk_g (0 ≤ x3 ∧ x3 < 147) (zk_n (zk_u s0 20 x3 0) fun s1 => zk_n (α := Int) (x3 + 1) fun x3_2 => some (.inl (x3_2, s1)))))
def zm_layParts_j108 (N : Nat) (x1 x2 x3 : Int) (s0 : ZS) : Option ((Int × ZS) ⊕ (ZS)) :=
  zk_n (α := Int) (x3 + 1) fun x3_7 => some (.inl (x3_7, s0))
def zm_layParts_b56 (N : Nat) (x1 x2 x3 x4 : Int) (s0 : ZS) : Option ((Int × ZS) ⊕ (ZS)) :=
  zk_g (zk_R x4) (if 21 ≤ x4 then (some (.inr (s0))) else (zk_b2 (zm_passes N 3284 s0) fun v8 s9 => zk_g (zk_R v8) (zk_g (0 ≤ (7 * x4 + (if v8 = (-9) then 0 else 1 + v8)) ∧ (7 * x4 + (if v8 = (-9) then 0 else 1 + v8)) < 147) (zk_g (0 ≤ (7 * x4 + (if v8 = (-9) then 0 else 1 + v8)) ∧ (7 * x4 + (if v8 = (-9) then 0 else 1 + v8)) < 147) (zk_n (zk_u s9 20 (7 * x4 + (if v8 = (-9) then 0 else 1 + v8)) ((s9 20 (7 * x4 + (if v8 = (-9) then 0 else 1 + v8))) + 1)) fun s10 => zk_n (α := Int) (x4 + 1) fun x4_11 => some (.inl (x4_11, s10)))))))
def zm_layParts_b24 (N : Nat) (x1 x2 x3 : Int) (s0 : ZS) : Option ((Int × ZS) ⊕ (ZS)) :=
  zk_g (zk_R x3) (if 21 ≤ x3 then (some (.inr (s0))) else (zk_b (zm_has x2 x3) fun v3 => zk_g (zk_R v3) (if v3 = 0 then (zm_layParts_j108 N x1 x2 x3 s0) else (zk_b2 (zm_layTried N s0) fun v4 s5 => zk_g (0 ≤ (3293 + x1) ∧ (3293 + x1) < 3305) (zk_n (zk_u s5 0 (3293 + x1) x3) fun s6 => zk_b (zk_loop (α := Int × ZS) (β := ZS) N (fun a => zm_layParts_b56 N x1 x2 x3 a.1 a.2) (1, s6)) (fun e => zm_layParts_j108 N x1 x2 x3 e))))))
def zm_layParts_j114 (N : Nat) (s0 : ZS) : Option (Int × ZS) :=
  some (0, s0)
def zm_layParts_j22 (N : Nat) (x1 x2 : Int) (s0 : ZS) : Option (Int × ZS) :=
  zk_b (zk_loop (α := Int × ZS) (β := ZS) N (fun a => zm_layParts_b24 N x1 x2 a.1 a.2) (0, s0)) (fun e => zm_layParts_j114 N e)
def zm_layParts (N : Nat) (p1 p2 : Int) (σ : ZS) : Option (Int × ZS) :=
  zk_b (zk_loop (α := Int × ZS) (β := ZS) N (fun a => zm_layParts_b2 N p1 p2 a.1 a.2) (0, σ)) (fun e => zm_layParts_j22 N p1 p2 e)
def zm_greatestPart_j38 (N : Nat) (x1 x3 y0 : Int) (σ : ZS) : Option ((Int × Int) ⊕ (Int)) :=
  zk_n (α := Int) (x3 + 1) fun x3_2 => some (.inl (y0, x3_2))
def zm_greatestPart_b7 (N : Nat) (x1 x2 x3 : Int) (σ : ZS) : Option ((Int × Int) ⊕ (Int)) :=
  zk_g (zk_R x3 ∧ zk_R (7 * x1 + 7)) (if (7 * x1 + 7) ≤ x3 then (some (.inr (x2))) else (zk_g (0 ≤ x3 ∧ x3 < 147) (zk_g (zk_R (σ 20 x3) ∧ zk_R x2) (if (σ 20 x3) ≤ x2 then (zm_greatestPart_j38 N x1 x3 x2 σ) else (zk_g (0 ≤ x3 ∧ x3 < 147) (zm_greatestPart_j38 N x1 x3 (σ 20 x3) σ))))))
def zm_greatestPart_j45 (N : Nat) (x2 : Int) (σ : ZS) : Option (Int) :=
  some x2
def zm_greatestPart (N : Nat) (p1 : Int) (σ : ZS) : Option (Int) :=
  zk_n (α := Int) (7 * p1) fun x3_1 => zk_b (zk_loop (α := Int × Int) (β := Int) N (fun a => zm_greatestPart_b7 N p1 a.1 a.2 σ) (0, x3_1)) (fun e => zm_greatestPart_j45 N e σ)
def zm_look_b63 (N : Nat) (x5 x6 x7 : Int) (s0 : ZS) : Option ((Int × Int × Int) ⊕ (Int × Int)) :=
  zk_g (zk_R x7) (if 21 ≤ x7 then (some (.inr (x5, x6))) else (zk_b (zm_greatestPart N x7 s0) fun v9 => zk_g (zk_R v9 ∧ zk_R x6) (zk_n (α := Int) (if x6 ≤ v9 then x5 else x7) fun x5_10 => zk_g (zk_R v9 ∧ zk_R x6) (zk_n (α := Int) (if x6 ≤ v9 then x6 else v9) fun x6_11 => zk_n (α := Int) (x7 + 1) fun x7_12 => some (.inl (x5_10, x6_11, x7_12))))))
def zm_look_j116 (N : Nat) (x5 x6 : Int) (s0 : ZS) : Option (Int × ZS) :=
  zk_n (zk_u s0 7 0 x6) fun s13 => some (x5, s13)
def zm_look (N : Nat) (p1 p2 : Int) (σ : ZS) : Option (Int × ZS) :=
  zk_b (zm_isOne p1 σ) fun v1 => zk_g (zk_R v1) (if v1 = 0 then (some ((-1), σ)) else (zk_b (zm_isRow p2) fun v2 => zk_g (zk_R v2) (if v2 = 0 then (some ((-1), σ)) else (zk_b2 (zm_noRow N p2 σ) fun v3 s4 => zk_g (zk_R v3) (if v3 = 0 then (zk_b2 (zm_daringsBy N p1 p2 s4) fun v5 s6 => zk_g (zk_R v5) (if v5 = 0 then (some ((-9), s6)) else (zk_b2 (zm_layParts N p1 v5 s6) fun v7 s8 => zk_b (zk_loop (α := Int × Int × Int) (β := Int × Int) N (fun a => zm_look_b63 N a.1 a.2.1 a.2.2 s8) ((-9), 99999, 1)) (fun e => zm_look_j116 N e.1 e.2 s8)))) else (some (v3, s4)))))))
def zm_noSets (p1 : Int) (σ : ZS) : Option (Int) :=
  zk_g (zk_R p1) (zk_b (zm_in p1 0 120) fun v1 => zk_g (zk_R v1) (if v1 = 0 then (some (-1)) else (zk_g (zk_R (σ 1 0)) (if (σ 1 0) = 0 then (some (-4)) else (some 0)))))
def zm_daringOf_j34 (N : Nat) (x1 x3 y0 y1 : Int) (σ : ZS) : Option ((Int × Int) ⊕ (Int)) :=
  zk_n (α := Int) (y0 + y1) fun x2_2 => zk_n (α := Int) (x3 + 1) fun x3_3 => some (.inl (x2_2, x3_3))
def zm_daringOf_b4 (N : Nat) (x1 x2 x3 : Int) (σ : ZS) : Option ((Int × Int) ⊕ (Int)) :=
  zk_g (zk_R x3 ∧ zk_R (σ 1 0)) (if (σ 1 0) ≤ x3 then (some (.inr (x2))) else (zk_b (zm_has x1 x3) fun v1 => zk_g (zk_R v1) (if v1 = 0 then (zm_daringOf_j34 N x1 x3 x2 0 σ) else (zk_g (0 ≤ (9 + x3) ∧ (9 + x3) < 3305) (zm_daringOf_j34 N x1 x3 x2 (σ 0 (9 + x3)) σ)))))
def zm_daringOf_j42 (N : Nat) (x2 : Int) (σ : ZS) : Option (Int) :=
  some x2
def zm_daringOf (N : Nat) (p1 : Int) (σ : ZS) : Option (Int) :=
  zk_b (zk_loop (α := Int × Int) (β := Int) N (fun a => zm_daringOf_b4 N p1 a.1 a.2 σ) (0, 0)) (fun e => zm_daringOf_j42 N e σ)
def zm_sets_j80 (N : Nat) (x1 x3 x4 y0 : Int) (s0 : ZS) : Option ((Int × Int × ZS) ⊕ (Int × ZS)) :=
  zk_n (zk_u s0 7 0 y0) fun s7 => zk_n (α := Int) (x4 + (-1)) fun x4_8 => some (.inl (x3, x4_8, s7))
def zm_sets_b30 (N : Nat) (x1 x3 x4 : Int) (s0 : ZS) : Option ((Int × Int × ZS) ⊕ (Int × ZS)) :=
  zk_g (zk_R x4) (if x4 < 0 then (some (.inr (x3, s0))) else (zk_b (zm_daringOf N x4 s0) fun v4 => zk_g (zk_R v4 ∧ zk_R x1) (zk_n (α := Int) (if v4 = x1 then 1 else 0) fun x5_5 => zk_g (zk_R x5_5) (zk_n (α := Int) (x3 + (if x5_5 = 0 then 0 else 1)) fun x3_6 => zk_g (zk_R x5_5) (if x5_5 = 0 then (zm_sets_j80 N x1 x3_6 x4 (s0 7 0) s0) else (zm_sets_j80 N x1 x3_6 x4 x4 s0))))))
def zm_sets_j89 (N : Nat) (x3 : Int) (s0 : ZS) : Option (Int × ZS) :=
  zk_g (zk_R x3) (zk_n (zk_u s0 8 0 x3) fun s9 => zk_n (zk_u s9 9 0 1) fun s10 => some (1, s10))
def zm_sets (N : Nat) (p1 : Int) (σ : ZS) : Option (Int × ZS) :=
  zk_b (zm_noSets p1 σ) fun v1 => zk_g (zk_R v1) (if v1 = 0 then (zk_n (zk_u σ 7 0 (-9)) fun s2 => zk_g (0 ≤ (s2 1 0) ∧ (s2 1 0) < 31) (zk_n (α := Int) ((1 * 2 ^ (s2 1 0 : Int).toNat) - 1) fun x4_3 => zk_b (zk_loop (α := Int × Int × ZS) (β := Int × ZS) N (fun a => zm_sets_b30 N p1 a.1 a.2.1 a.2.2) (0, x4_3, s2)) (fun e => zm_sets_j89 N e.1 e.2))) else (some (v1, σ)))
def zm_sure_j66 (N : Nat) (x1 x3 x4 x5 x6 x7 : Int) (s0 : ZS) : Option ((Int × Int × Int × Int) ⊕ (Int × Int × Int)) :=
  zk_n (α := Int) (x7 + 1) fun x7_6 => some (.inl (x4, x5, x6, x7_6))
def zm_sure_b33 (N : Nat) (x1 x3 x4 x5 x6 x7 : Int) (s0 : ZS) : Option ((Int × Int × Int × Int) ⊕ (Int × Int × Int)) :=
  zk_g (zk_R x7 ∧ zk_R x3) (if x3 < x7 then (some (.inr (x4, x5, x6))) else (zk_b (zm_daringOf N x7 s0) fun v3 => zk_g (zk_R v3 ∧ zk_R x1) (if v3 = x1 then (zk_n (α := Int) (zk_and x4 x7) fun x4_4 => zk_n (α := Int) (zk_or x5 x7) fun x5_5 => zm_sure_j66 N x1 x3 x4_4 x5_5 1 x7 s0) else (zm_sure_j66 N x1 x3 x4 x5 x6 x7 s0))))
def zm_sure_j72 (N : Nat) (x3 x4 x5 x6 : Int) (s0 : ZS) : Option (Int × ZS) :=
  zk_g (zk_R x6) (if x6 = 0 then (zk_b2 (zm_find 4 s0) fun v8 s9 => some (v8, s9)) else (zk_n (zk_u s0 7 0 (zk_and x3 (zk_xor x5 (-1)))) fun s7 => some (x4, s7)))
def zm_sure (N : Nat) (p1 : Int) (σ : ZS) : Option (Int × ZS) :=
  zk_b (zm_noSets p1 σ) fun v1 => zk_g (zk_R v1) (if v1 = 0 then (zk_g (0 ≤ (σ 1 0) ∧ (σ 1 0) < 31) (zk_n (α := Int) ((1 * 2 ^ (σ 1 0 : Int).toNat) - 1) fun x3_2 => zk_b (zk_loop (α := Int × Int × Int × Int) (β := Int × Int × Int) N (fun a => zm_sure_b33 N p1 x3_2 a.1 a.2.1 a.2.2.1 a.2.2.2 σ) (x3_2, 0, 0, 0)) (fun e => zm_sure_j72 N x3_2 e.1 e.2.1 e.2.2 σ))) else (some (v1, σ)))
def zm_daringRaised (p1 p2 : Int) (σ : ZS) : Option (Int) :=
  zk_g (0 ≤ (9 + p1) ∧ (9 + p1) < 3305) (some (σ 0 (9 + p1) + p2))
def zm_comes_j69 (N : Nat) (x1 x2 y0 y1 : Int) (s0 : ZS) : Option (Int × ZS) :=
  zk_g (0 ≤ y0 ∧ y0 < 3305) (zk_n (zk_u s0 0 y0 y1) fun s8 => zk_b (zm_boldest N 3284 0 s8) fun v9 => zk_g (zk_R v9 ∧ zk_R x1) (if v9 = x1 then (some (1, s8)) else (zk_g (zk_R v9 ∧ zk_R x2) (if v9 = x2 then (some ((-1), s8)) else (some (0, s8))))))
def zm_comes_j35 (N : Nat) (x1 x2 x4 y0 y1 : Int) (s0 : ZS) : Option (Int × ZS) :=
  zk_g (0 ≤ y0 ∧ y0 < 3305) (zk_n (zk_u s0 0 y0 y1) fun s5 => zk_b (zm_daringRaised x2 x4 s5) fun v6 => zk_g (zk_R v6) (if v6 ≤ 20 then (zk_b (zm_daringRaised x2 x4 s5) fun v7 => zm_comes_j69 N x1 x2 (3293 + x2) v7 s5) else (zm_comes_j69 N x1 x2 (3293 + x2) 20 s5)))
def zm_comes (N : Nat) (p1 p2 p3 p4 : Int) (σ : ZS) : Option (Int × ZS) :=
  zk_b2 (zm_layTried N σ) fun v1 s2 => zk_b (zm_daringRaised p1 p3 s2) fun v3 => zk_g (zk_R v3) (if v3 ≤ 20 then (zk_b (zm_daringRaised p1 p3 s2) fun v4 => zm_comes_j35 N p1 p2 p4 (3293 + p1) v4 s2) else (zm_comes_j35 N p1 p2 p4 (3293 + p1) 20 s2))
def zm_duel_b38 (N : Nat) (x1 x2 x3 x4 : Int) (s0 : ZS) : Option ((Int × ZS) ⊕ (ZS)) :=
  zk_g (zk_R x4) (if 49 ≤ x4 then (some (.inr (s0))) else (zk_g ((0 ≤ x4 ∧ x4 ≤ 2147483647) ∧ (0 < (7 : Int) ∧ (7 : Int) ≤ 2147483647)) (zk_g ((0 ≤ x4 ∧ x4 ≤ 2147483647) ∧ (0 < (7 : Int) ∧ (7 : Int) ≤ 2147483647)) (zk_b2 (zm_comes N x1 x2 (x4 / 7) (x4 % 7) s0) fun v4 s5 => zk_g (0 ≤ x4 ∧ x4 < 49) (zk_n (zk_u s5 21 x4 v4) fun s6 => zk_n (α := Int) (x4 + 1) fun x4_7 => some (.inl (x4_7, s6)))))))
def zm_duel_j249 (N : Nat) (x1 x2 x4 x5 x6 x7 x8 x10 y0 : Int) (s0 : ZS) : Option ((Int × Int) ⊕ (Int)) :=
  zk_n (α := Int) (x10 + 1) fun x10_13 => some (.inl (y0, x10_13))
def zm_duel_j209 (N : Nat) (x1 x2 x4 x5 x6 x7 x8 x9 x10 y0 : Int) (s0 : ZS) : Option ((Int × Int) ⊕ (Int)) :=
  zk_g ((0 ≤ x4 ∧ x4 ≤ 2147483647) ∧ (0 < (2 : Int) ∧ (2 : Int) ≤ 2147483647)) (zk_g (zk_R (x4 % 2)) (if (x4 % 2) = 0 then (zk_g (zk_R y0 ∧ zk_R x9) (if y0 ≤ x9 then (zm_duel_j249 N x1 x2 x4 x5 x6 x7 x8 x10 x9 s0) else (zm_duel_j249 N x1 x2 x4 x5 x6 x7 x8 x10 y0 s0))) else (zk_g (zk_R y0 ∧ zk_R x9) (if x9 ≤ y0 then (zm_duel_j249 N x1 x2 x4 x5 x6 x7 x8 x10 x9 s0) else (zm_duel_j249 N x1 x2 x4 x5 x6 x7 x8 x10 y0 s0)))))
def zm_duel_b159 (N : Nat) (x1 x2 x4 x5 x6 x7 x8 x9 x10 : Int) (s0 : ZS) : Option ((Int × Int) ⊕ (Int)) :=
  zk_g (zk_R x10) (if 3 ≤ x10 then (some (.inr (x9))) else (zk_g (zk_R (x8 + x10)) (if 7 ≤ (x8 + x10) then (some (.inr (x9))) else (zk_b (zm_daringRaised x5 (x8 + x10) s0) fun v12 => zk_g (zk_R v12) (if 21 ≤ v12 then (zm_duel_j209 N x1 x2 x4 x5 x6 x7 x8 x9 x10 x9 s0) else (zk_g (0 ≤ (x7 + (x6 * x10)) ∧ (x7 + (x6 * x10)) < 49) (zm_duel_j209 N x1 x2 x4 x5 x6 x7 x8 x9 x10 (s0 21 (x7 + (x6 * x10))) s0)))))))
def zm_duel_j257 (N : Nat) (x1 x2 x4 x5 x6 x7 x9 : Int) (s0 : ZS) : Option ((Int × ZS) ⊕ (ZS)) :=
  zk_g (0 ≤ x7 ∧ x7 < 49) (zk_n (zk_u s0 21 x7 x9) fun s14 => zk_n (α := Int) (x7 + 1) fun x7_15 => some (.inl (x7_15, s14)))
def zm_duel_j145 (N : Nat) (x1 x2 x4 x5 x6 x7 y0 : Int) (s0 : ZS) : Option ((Int × ZS) ⊕ (ZS)) :=
  zk_g (0 ≤ x7 ∧ x7 < 49) (zk_n (α := Int) (s0 21 x7) fun x9_11 => zk_b (zk_loop (α := Int × Int) (β := Int) N (fun a => zm_duel_b159 N x1 x2 x4 x5 x6 x7 y0 a.1 a.2 s0) (x9_11, 1)) (fun e => zm_duel_j257 N x1 x2 x4 x5 x6 x7 e s0))
def zm_duel_b118 (N : Nat) (x1 x2 x4 x5 x6 x7 : Int) (s0 : ZS) : Option ((Int × ZS) ⊕ (ZS)) :=
  zk_g (zk_R x7) (if 49 ≤ x7 then (some (.inr (s0))) else (zk_g ((0 ≤ x4 ∧ x4 ≤ 2147483647) ∧ (0 < (2 : Int) ∧ (2 : Int) ≤ 2147483647)) (zk_g (zk_R (x4 % 2)) (if (x4 % 2) = 0 then (zk_g ((0 ≤ x7 ∧ x7 ≤ 2147483647) ∧ (0 < (7 : Int) ∧ (7 : Int) ≤ 2147483647)) (zm_duel_j145 N x1 x2 x4 x5 x6 x7 (x7 / 7) s0)) else (zk_g ((0 ≤ x7 ∧ x7 ≤ 2147483647) ∧ (0 < (7 : Int) ∧ (7 : Int) ≤ 2147483647)) (zm_duel_j145 N x1 x2 x4 x5 x6 x7 (x7 % 7) s0))))))
def zm_duel_j272 (N : Nat) (x1 x2 x4 : Int) (s0 : ZS) : Option ((Int × ZS) ⊕ (ZS)) :=
  zk_n (α := Int) (x4 + (-1)) fun x4_16 => some (.inl (x4_16, s0))
def zm_duel_b81 (N : Nat) (x1 x2 x4 : Int) (s0 : ZS) : Option ((Int × ZS) ⊕ (ZS)) :=
  zk_g (zk_R x4) (if x4 < 0 then (some (.inr (s0))) else (zk_g ((0 ≤ x4 ∧ x4 ≤ 2147483647) ∧ (0 < (2 : Int) ∧ (2 : Int) ≤ 2147483647)) (zk_g (zk_R (x4 % 2)) (zk_n (α := Int) (if (x4 % 2) = 0 then x1 else x2) fun x5_9 => zk_g ((0 ≤ x4 ∧ x4 ≤ 2147483647) ∧ (0 < (2 : Int) ∧ (2 : Int) ≤ 2147483647)) (zk_g (zk_R (x4 % 2)) (zk_n (α := Int) (if (x4 % 2) = 0 then 7 else 1) fun x6_10 => zk_b (zk_loop (α := Int × ZS) (β := ZS) N (fun a => zm_duel_b118 N x1 x2 x4 x5_9 x6_10 a.1 a.2) (0, s0)) (fun e => zm_duel_j272 N x1 x2 x4 e)))))))
def zm_duel_j278 (N : Nat) (s0 : ZS) : Option (Int × ZS) :=
  zk_g (0 ≤ (0 : Int) ∧ (0 : Int) < 49) (zk_n (zk_u s0 7 0 (s0 21 0)) fun s17 => some (1, s17))
def zm_duel_j74 (N : Nat) (x1 x2 x3 : Int) (s0 : ZS) : Option (Int × ZS) :=
  zk_n (α := Int) (2 * x3 - 1) fun x4_8 => zk_b (zk_loop (α := Int × ZS) (β := ZS) N (fun a => zm_duel_b81 N x1 x2 a.1 a.2) (x4_8, s0)) (fun e => zm_duel_j278 N e)
def zm_duel (N : Nat) (p1 p2 p3 : Int) (σ : ZS) : Option (Int × ZS) :=
  zk_b (zm_isOne p1 σ) fun v1 => zk_g (zk_R v1) (if v1 = 0 then (some ((-1), σ)) else (zk_b (zm_isOne p2 σ) fun v2 => zk_g (zk_R v2) (if v2 = 0 then (some ((-1), σ)) else (zk_g (zk_R p1 ∧ zk_R p2) (if p1 = p2 then (some ((-1), σ)) else (zk_g (zk_R p3) (zk_b (zm_in p3 0 3) fun v3 => zk_g (zk_R v3) (if v3 = 0 then (some ((-1), σ)) else (zk_b (zk_loop (α := Int × ZS) (β := ZS) N (fun a => zm_duel_b38 N p1 p2 p3 a.1 a.2) (0, σ)) (fun e => zm_duel_j74 N p1 p2 p3 e))))))))))
def zm_chancesOf_j34 (N : Nat) (x1 x2 x5 y0 y1 : Int) (σ : ZS) : Option ((Int × Int) ⊕ (Int)) :=
  zk_n (α := Int) (y0 * y1) fun x3_2 => zk_n (α := Int) (x5 + 1) fun x5_3 => some (.inl (x3_2, x5_3))
def zm_chancesOf_b5 (N : Nat) (x1 x2 x3 x5 : Int) (σ : ZS) : Option ((Int × Int) ⊕ (Int)) :=
  zk_g (zk_R x5 ∧ zk_R (σ 1 0)) (if (σ 1 0) ≤ x5 then (some (.inr (x3))) else (zk_b (zm_has x1 x5) fun v1 => zk_g (zk_R v1) (if v1 = 0 then (zk_g (zk_R (12 - x2)) (zm_chancesOf_j34 N x1 x2 x5 x3 (12 - x2) σ)) else (zk_g (zk_R x2) (zm_chancesOf_j34 N x1 x2 x5 x3 x2 σ)))))
def zm_chancesOf_j42 (N : Nat) (x3 : Int) (σ : ZS) : Option (Int) :=
  some x3
def zm_chancesOf (N : Nat) (p1 p2 : Int) (σ : ZS) : Option (Int) :=
  zk_b (zk_loop (α := Int × Int) (β := Int) N (fun a => zm_chancesOf_b5 N p1 p2 a.1 a.2 σ) (1, 0)) (fun e => zm_chancesOf_j42 N e σ)
def zm_tellParts_b6 (N : Nat) (x1 x3 x5 x7 : Int) (s0 : ZS) : Option ((Int × Int) ⊕ (Int)) :=
  zk_g (zk_Q64 x7) (if x7 = 0 then (some (.inr (x5))) else (zk_g ((0 ≤ x5 ∧ x5 ≤ 9223372036854775807) ∧ (0 < x7 ∧ x7 ≤ 9223372036854775807)) (zk_n (α := Int) (x5 % x7) fun x9_1 => some (.inl (x7, x9_1)))))
def zm_tellParts_j31 (N : Nat) (x1 x3 x5 : Int) (s0 : ZS) : Option (Int × ZS) :=
  zk_g ((0 ≤ x1 ∧ x1 ≤ 9223372036854775807) ∧ (0 < x5 ∧ x5 ≤ 9223372036854775807)) (zk_n (zk_u s0 8 0 (x1 / x5)) fun s2 => zk_g ((0 ≤ x3 ∧ x3 ≤ 9223372036854775807) ∧ (0 < x5 ∧ x5 ≤ 9223372036854775807)) (zk_n (zk_u s2 9 0 (x3 / x5)) fun s3 => some (0, s3)))
def zm_tellParts (N : Nat) (p1 p3 : Int) (σ : ZS) : Option (Int × ZS) :=
  zk_b (zk_loop (α := Int × Int) (β := Int) N (fun a => zm_tellParts_b6 N p1 p3 a.1 a.2 σ) (p1, p3)) (fun e => zm_tellParts_j31 N p1 p3 e σ)
def zm_odds_b30 (N : Nat) (x1 x2 x3 x5 x7 : Int) (s0 : ZS) : Option ((Int × Int × Int) ⊕ (Int × Int)) :=
  zk_g (0 ≤ (s0 1 0) ∧ (s0 1 0) < 31) (zk_g (zk_R x7 ∧ zk_R (1 * 2 ^ (s0 1 0 : Int).toNat)) (if (1 * 2 ^ (s0 1 0 : Int).toNat) ≤ x7 then (some (.inr (x3, x5))) else (zk_b (zm_chancesOf N x7 x2 s0) fun v3 => zk_b (zm_boldest N 0 x7 s0) fun v4 => zk_g (zk_R v4 ∧ zk_R x1) (zk_n (α := Int) (x3 + (if v4 = x1 then v3 else 0)) fun x3_5 => zk_n (α := Int) (x5 + v3) fun x5_6 => zk_n (α := Int) (x7 + 1) fun x7_7 => some (.inl (x3_5, x5_6, x7_7))))))
def zm_odds_j83 (N : Nat) (x3 x5 : Int) (s0 : ZS) : Option (Int × ZS) :=
  zk_b2 (zm_tellParts N x3 x5 s0) fun v8 s9 => some (1, s9)
def zm_odds (N : Nat) (p1 p2 : Int) (σ : ZS) : Option (Int × ZS) :=
  zk_b (zm_isOne p1 σ) fun v1 => zk_g (zk_R v1) (if v1 = 0 then (some ((-1), σ)) else (zk_g (zk_R p2) (zk_b (zm_in p2 0 12) fun v2 => zk_g (zk_R v2) (if v2 = 0 then (some ((-1), σ)) else (zk_b (zk_loop (α := Int × Int × Int) (β := Int × Int) N (fun a => zm_odds_b30 N p1 p2 a.1 a.2.1 a.2.2 σ) (0, 0, 0)) (fun e => zm_odds_j83 N e.1 e.2 σ))))))
def zm_farAll_j68 (N : Nat) (x1 x2 x5 x7 y0 y1 y2 y3 : Int) (s0 : ZS) : Option ((Int × Int × ZS) ⊕ (Int × ZS)) :=
  zk_b (zm_apart y2 y3) fun v4 => zk_g (zk_R v4) (zk_n (α := Int) (y0 + (y1 * v4)) fun x3_5 => zk_n (zk_u s0 22 0 (s0 22 0 + x7)) fun s6 => zk_n (α := Int) (x5 + 1) fun x5_7 => some (.inl (x3_5, x5_7, s6)))
def zm_farAll_b10 (N : Nat) (x1 x2 x3 x5 : Int) (s0 : ZS) : Option ((Int × Int × ZS) ⊕ (Int × ZS)) :=
  zk_g (0 ≤ (s0 1 0) ∧ (s0 1 0) < 31) (zk_g (zk_R x5 ∧ zk_R (1 * 2 ^ (s0 1 0 : Int).toNat)) (if (1 * 2 ^ (s0 1 0 : Int).toNat) ≤ x5 then (some (.inr (x3, s0))) else (zk_b (zm_boldest N 0 x5 s0) fun v2 => zk_b (zm_chancesOf N x5 x2 s0) fun v3 => zk_g (zk_R v2) (if v2 = (-9) then (zk_g (0 ≤ (2 : Int) ∧ (2 : Int) < 3305) (zm_farAll_j68 N x1 x2 x5 v3 x3 v3 x1 (s0 0 2) s0)) else (zk_g (0 ≤ (3 + v2) ∧ (3 + v2) < 3305) (zm_farAll_j68 N x1 x2 x5 v3 x3 v3 x1 (s0 0 (3 + v2)) s0))))))
def zm_farAll_j92 (N : Nat) (x3 : Int) (s0 : ZS) : Option (Int × ZS) :=
  some (x3, s0)
def zm_farAll (N : Nat) (p1 p2 : Int) (σ : ZS) : Option (Int × ZS) :=
  zk_n (zk_u σ 22 0 0) fun s1 => zk_b (zk_loop (α := Int × Int × ZS) (β := Int × ZS) N (fun a => zm_farAll_b10 N p1 p2 a.1 a.2.1 a.2.2) (0, 0, s1)) (fun e => zm_farAll_j92 N e.1 e.2)
def zm_mid (N : Nat) (p1 p2 : Int) (σ : ZS) : Option (Int × ZS) :=
  zk_g (zk_R p1) (zk_b (zm_in p1 0 9) fun v1 => zk_g (zk_R v1) (if v1 = 0 then (some ((-1), σ)) else (zk_g (zk_R p2) (zk_b (zm_in p2 0 12) fun v2 => zk_g (zk_R v2) (if v2 = 0 then (some ((-1), σ)) else (zk_g (zk_R (σ 1 0)) (if (σ 1 0) = 0 then (some ((-4), σ)) else (zk_b2 (zm_farAll N p1 p2 σ) fun v3 s4 => zk_b2 (zm_tellParts N v3 (s4 22 0) s4) fun v5 s6 => some (1, s6)))))))))
def zm_fair_j67 (N : Nat) (x1 x2 x3 x5 x6 y0 : Int) (s0 : ZS) : Option ((Int × Int × Int × ZS) ⊕ (Int × Int × ZS)) :=
  zk_g (zk_R y0) (zk_n (α := Int) (if y0 = 0 then x2 else x5) fun x2_4 => zk_g (zk_R y0) (zk_n (α := Int) (if y0 = 0 then x3 else x6) fun x3_5 => zk_n (α := Int) (x5 + 1) fun x5_6 => some (.inl (x2_4, x3_5, x5_6, s0))))
def zm_fair_b33 (N : Nat) (x1 x2 x3 x5 : Int) (s0 : ZS) : Option ((Int × Int × Int × ZS) ⊕ (Int × Int × ZS)) :=
  zk_g (zk_R x5) (if 10 ≤ x5 then (some (.inr (x2, x3, s0))) else (zk_b2 (zm_farAll N x5 x1 s0) fun v2 s3 => zk_g (zk_Q64 x3) (if x3 < 0 then (zm_fair_j67 N x1 x2 x3 x5 v2 1 s3) else (zk_g (zk_Q64 v2 ∧ zk_Q64 x3) (if x3 ≤ v2 then (zm_fair_j67 N x1 x2 x3 x5 v2 0 s3) else (zm_fair_j67 N x1 x2 x3 x5 v2 1 s3))))))
def zm_fair_j99 (N : Nat) (x2 x3 : Int) (s0 : ZS) : Option (Int × ZS) :=
  zk_b2 (zm_tellParts N x3 (s0 22 0) s0) fun v7 s8 => some (x2, s8)
def zm_fair (N : Nat) (p1 : Int) (σ : ZS) : Option (Int × ZS) :=
  zk_g (zk_R p1) (zk_b (zm_in p1 0 12) fun v1 => zk_g (zk_R v1) (if v1 = 0 then (some ((-1), σ)) else (zk_g (zk_R (σ 1 0)) (if (σ 1 0) = 0 then (some ((-4), σ)) else (zk_b (zk_loop (α := Int × Int × Int × ZS) (β := Int × Int × ZS) N (fun a => zm_fair_b33 N p1 a.1 a.2.1 a.2.2.1 a.2.2.2) (0, (-1), 0, σ)) (fun e => zm_fair_j99 N e.1 e.2.1 e.2.2))))))
def zm_byLot (N : Nat) (p1 : Int) (σ : ZS) : Option (Int × ZS) :=
  zk_g (zk_R (σ 1 0)) (zk_g ((0 ≤ p1 ∧ p1 ≤ 9223372036854775807) ∧ (0 < (σ 1 0) ∧ (σ 1 0) ≤ 9223372036854775807)) (zk_n (α := Int) (p1 % (σ 1 0)) fun x3_1 => zk_g ((0 ≤ p1 ∧ p1 ≤ 9223372036854775807) ∧ (0 < (8 : Int) ∧ (8 : Int) ≤ 9223372036854775807)) (zk_g ((0 ≤ (p1 / 8) ∧ (p1 / 8) ≤ 9223372036854775807) ∧ (0 < (8 : Int) ∧ (8 : Int) ≤ 9223372036854775807)) (zk_n (α := Int) ((p1 / 8) % 8) fun x4_2 => zk_g ((0 ≤ p1 ∧ p1 ≤ 9223372036854775807) ∧ (0 < (64 : Int) ∧ (64 : Int) ≤ 9223372036854775807)) (zk_g ((0 ≤ (p1 / 64) ∧ (p1 / 64) ≤ 9223372036854775807) ∧ (0 < (5 : Int) ∧ (5 : Int) ≤ 9223372036854775807)) (zk_n (α := Int) (1 + ((p1 / 64) % 5)) fun x5_3 => zk_g (0 ≤ (9 + x3_1) ∧ (9 + x3_1) < 3305) (zk_n (α := Int) (σ 0 (9 + x3_1)) fun x6_4 => zk_g (zk_R x4_2) (if 2 ≤ x4_2 then (zk_g (zk_R x4_2) (if x4_2 = 2 then (zk_g (zk_R x6_4 ∧ zk_R x5_3) (zk_g (0 ≤ (9 + x3_1) ∧ (9 + x3_1) < 3305) (zk_n (zk_u σ 0 (9 + x3_1) (if x5_3 ≤ x6_4 then x6_4 - x5_3 else 0)) fun s8 => some (0, s8)))) else (zk_g (zk_R x4_2) (if x4_2 = 3 then (zk_g ((0 ≤ p1 ∧ p1 ≤ 9223372036854775807) ∧ (0 < (64 : Int) ∧ (64 : Int) ≤ 9223372036854775807)) (zk_g ((0 ≤ (p1 / 64) ∧ (p1 / 64) ≤ 9223372036854775807) ∧ (0 < (10 : Int) ∧ (10 : Int) ≤ 9223372036854775807)) (zk_g (0 ≤ (3 + x3_1) ∧ (3 + x3_1) < 3305) (zk_n (zk_u σ 0 (3 + x3_1) ((p1 / 64) % 10)) fun s7 => some (0, s7))))) else (zk_b2 (zm_passes N 0 σ) fun v5 s6 => some (0, s6)))))) else (zk_g (zk_R (x6_4 + x5_3)) (zk_g (0 ≤ (9 + x3_1) ∧ (9 + x3_1) < 3305) (zk_n (zk_u σ 0 (9 + x3_1) (if (x6_4 + x5_3) ≤ 20 then x6_4 + x5_3 else 20)) fun s9 => some (0, s9))))))))))))
def zm_lots_b58 (N : Nat) (x1 x3 x5 : Int) (s0 : ZS) : Option ((Int × Int × ZS) ⊕ (ZS)) :=
  zk_g (zk_R x5 ∧ zk_R x1) (if x1 ≤ x5 then (some (.inr (s0))) else (zk_g ((0 ≤ (x3 * 48271) ∧ (x3 * 48271) ≤ 9223372036854775807) ∧ (0 < (2147483647 : Int) ∧ (2147483647 : Int) ≤ 9223372036854775807)) (zk_n (α := Int) ((x3 * 48271) % 2147483647) fun x3_3 => zk_b2 (zm_keepPast N s0) fun v4 s5 => zk_b2 (zm_byLot N x3_3 s5) fun v6 s7 => zk_n (α := Int) (x5 + 1) fun x5_8 => some (.inl (x3_3, x5_8, s7)))))
def zm_lots_j89 (N : Nat) (s0 : ZS) : Option (Int × ZS) :=
  zk_g (0 ≤ (2 : Int) ∧ (2 : Int) < 3305) (some (s0 0 2, s0))
def zm_lots (N : Nat) (p1 p2 : Int) (σ : ZS) : Option (Int × ZS) :=
  zk_g (zk_R p1) (zk_b (zm_in p1 1 20) fun v1 => zk_g (zk_R v1) (if v1 = 0 then (some ((-1), σ)) else (zk_g (zk_R p2) (zk_b (zm_in p2 1 2147483646) fun v2 => zk_g (zk_R v2) (if v2 = 0 then (some ((-1), σ)) else (zk_g (zk_R (σ 1 0)) (if (σ 1 0) = 0 then (some ((-4), σ)) else (zk_g (0 ≤ (0 : Int) ∧ (0 : Int) < 3305) (zk_g (zk_R (σ 0 0 + p1)) (if (σ 0 0 + p1) ≤ 40 then (zk_g (zk_R p2) (zk_b (zk_loop (α := Int × Int × ZS) (β := ZS) N (fun a => zm_lots_b58 N p1 a.1 a.2.1 a.2.2) (p2, 0, σ)) (fun e => zm_lots_j89 N e))) else (some ((-2), σ))))))))))))
def zm_asked (σ : ZS) : Option (Int) :=
  some (σ 7 0)
def zm_upper (σ : ZS) : Option (Int) :=
  some (σ 8 0)
def zm_lower (σ : ZS) : Option (Int) :=
  some (σ 9 0)
def zm_crossedByAll_b4 (N : Nat) (x1 x2 : Int) (σ : ZS) : Option ((Int × Int) ⊕ (Int)) :=
  zk_g (zk_R x2 ∧ zk_R (σ 1 0)) (if (σ 1 0) ≤ x2 then (some (.inr (x1))) else (zk_g (0 ≤ (15 + x2) ∧ (15 + x2) < 3305) (zk_n (α := Int) (x1 + (σ 0 (15 + x2))) fun x1_1 => zk_n (α := Int) (x2 + 1) fun x2_2 => some (.inl (x1_1, x2_2)))))
def zm_crossedByAll_j30 (N : Nat) (x1 : Int) (σ : ZS) : Option (Int) :=
  some x1
def zm_crossedByAll (N : Nat) (σ : ZS) : Option (Int) :=
  zk_b (zk_loop (α := Int × Int) (β := Int) N (fun a => zm_crossedByAll_b4 N a.1 a.2 σ) (0, 0)) (fun e => zm_crossedByAll_j30 N e σ)
def zm_those_b4 (N : Nat) (x1 x2 x3 : Int) (σ : ZS) : Option ((Int × Int) ⊕ (Int)) :=
  zk_g (zk_R x3 ∧ zk_R (σ 1 0)) (if (σ 1 0) ≤ x3 then (some (.inr (x2))) else (zk_b (zm_isOf x3 x1 σ) fun v1 => zk_g (zk_R v1) (zk_n (α := Int) (x2 + (if v1 = 0 then 0 else 1)) fun x2_2 => zk_n (α := Int) (x3 + 1) fun x3_3 => some (.inl (x2_2, x3_3)))))
def zm_those_j35 (N : Nat) (x2 : Int) (σ : ZS) : Option (Int) :=
  some x2
def zm_those (N : Nat) (p1 : Int) (σ : ZS) : Option (Int) :=
  zk_b (zk_loop (α := Int × Int) (β := Int) N (fun a => zm_those_b4 N p1 a.1 a.2 σ) (0, 0)) (fun e => zm_those_j35 N e σ)
def zm_thereOf_j89 (N : Nat) (x1 x3 y0 y1 : Int) (σ : ZS) : Option ((Int × Int) ⊕ (Int)) :=
  zk_n (α := Int) (y0 + y1) fun x2_1 => zk_n (α := Int) (x3 + 1) fun x3_2 => some (.inl (x2_1, x3_2))
def zm_thereOf_j88 (N : Nat) (x1 x3 y0 : Int) (σ : ZS) : Option ((Int × Int) ⊕ (Int)) :=
  zm_thereOf_j89 N x1 x3 y0 0 σ
def zm_thereOf_b4 (N : Nat) (x1 x2 x3 : Int) (σ : ZS) : Option ((Int × Int) ⊕ (Int)) :=
  zk_g (zk_R x3) (if 6 ≤ x3 then (some (.inr (x2))) else (zk_g (zk_R x1) (if x1 = 9 then (zk_g (0 ≤ x3 ∧ x3 < 6) (zk_g (zk_R (σ 3 x3)) (if 0 ≤ (σ 3 x3) then (zm_thereOf_j89 N x1 x3 x2 1 σ) else (zm_thereOf_j89 N x1 x3 x2 0 σ)))) else (zk_g (zk_R x1) (if x1 = 10 then (zk_g (zk_R x3) (if 4 ≤ x3 then (zm_thereOf_j89 N x1 x3 x2 0 σ) else (zk_g (0 ≤ x3 ∧ x3 < 4) (zk_g (zk_R (σ 5 x3)) (if (σ 5 x3) < 0 then (zm_thereOf_j89 N x1 x3 x2 0 σ) else (zm_thereOf_j89 N x1 x3 x2 1 σ)))))) else (zk_g (zk_R x3) (if 3 ≤ x3 then (zm_thereOf_j88 N x1 x3 x2 σ) else (zk_g (0 ≤ (821 * (1 + x3) + 0) ∧ (821 * (1 + x3) + 0) < 3305) (zk_g (zk_R (σ 0 (821 * (1 + x3) + 0))) (if (σ 0 (821 * (1 + x3) + 0)) < 0 then (zm_thereOf_j88 N x1 x3 x2 σ) else (zm_thereOf_j89 N x1 x3 x2 1 σ)))))))))))
def zm_thereOf_j97 (N : Nat) (x2 : Int) (σ : ZS) : Option (Int) :=
  some x2
def zm_thereOf (N : Nat) (p1 : Int) (σ : ZS) : Option (Int) :=
  zk_b (zk_loop (α := Int × Int) (β := Int) N (fun a => zm_thereOf_b4 N p1 a.1 a.2 σ) (0, 0)) (fun e => zm_thereOf_j97 N e σ)
def zm_countOf (N : Nat) (p1 : Int) (σ : ZS) : Option (Int) :=
  zk_b (zm_boldest N 0 0 σ) fun v1 => zk_g (zk_R p1) (if p1 = 0 then (some (σ 1 0)) else if p1 = 1 then (zk_g (0 ≤ (1 : Int) ∧ (1 : Int) < 3305) (some (σ 0 1))) else if p1 = 2 then (zk_g (0 ≤ (0 : Int) ∧ (0 : Int) < 3305) (some (σ 0 0))) else if p1 = 3 then (zk_g (0 ≤ (2 : Int) ∧ (2 : Int) < 3305) (some (σ 0 2))) else if p1 = 4 then (zk_g (zk_R v1) (if v1 = (-9) then (some 0) else (zk_g (0 ≤ v1 ∧ v1 < 31) (some (1 * 2 ^ v1.toNat))))) else if p1 = 5 then (zk_g (0 ≤ (σ 1 0) ∧ (σ 1 0) < 31) (zk_b (zm_daringOf N ((1 * 2 ^ (σ 1 0 : Int).toNat) - 1) σ) fun v2 => some v2)) else if p1 = 6 then (zk_b (zm_crossedByAll N σ) fun v3 => some v3) else if p1 = 7 then (zk_b (zm_those N 2 σ) fun v4 => some v4) else if p1 = 8 then (zk_b (zm_those N 3 σ) fun v5 => some v5) else (zk_b (zm_thereOf N p1 σ) fun v6 => some v6))
def zm_count (N : Nat) (p1 : Int) (σ : ZS) : Option (Int) :=
  zk_g (zk_R p1) (zk_b (zm_in p1 0 11) fun v1 => zk_g (zk_R v1) (if v1 = 0 then (some (-1)) else (zk_b (zm_countOf N p1 σ) fun v2 => some v2)))
def zm_finding (σ : ZS) : Option (Int) :=
  some (σ 10 0)
def zm_findings (p1 : Int) (σ : ZS) : Option (Int) :=
  zk_g (zk_R p1) (zk_b (zm_in p1 1 5) fun v1 => zk_g (zk_R v1) (if v1 = 0 then (some (-1)) else (zk_g (0 ≤ p1 ∧ p1 < 6) (some (σ 11 p1)))))
def zm_digest_b6 (N : Nat) (x1 x3 : Int) (σ : ZS) : Option ((Int × Int) ⊕ (Int)) :=
  zk_g (zk_R x3) (if 12 ≤ x3 then (some (.inr (x1))) else (zk_b (zm_countOf N x3 σ) fun v1 => zk_g (zk_R v1) (zk_n (α := Int) (31 * x1 + v1) fun x1_2 => zk_n (α := Int) (x3 + 1) fun x3_3 => some (.inl (x1_2, x3_3)))))
def zm_digest_b33 (N : Nat) (x1 x3 : Int) (σ : ZS) : Option ((Int × Int) ⊕ (Int)) :=
  zk_g (zk_R x3 ∧ zk_R (6 * (σ 1 0))) (if (6 * (σ 1 0)) ≤ x3 then (some (.inr (x1))) else (zk_g ((0 ≤ x3 ∧ x3 ≤ 2147483647) ∧ (0 < (6 : Int) ∧ (6 : Int) ≤ 2147483647)) (zk_g ((0 ≤ x3 ∧ x3 ≤ 2147483647) ∧ (0 < (6 : Int) ∧ (6 : Int) ≤ 2147483647)) (zk_b (zm_toldOf (x3 / 6) (x3 % 6) σ) fun v4 => zk_g (zk_R v4) (zk_n (α := Int) (31 * x1 + v4) fun x1_5 => zk_n (α := Int) (x3 + 1) fun x3_6 => some (.inl (x1_5, x3_6)))))))
def zm_digest_b72 (N : Nat) (x1 x3 : Int) (σ : ZS) : Option ((Int × Int) ⊕ (Int)) :=
  zk_g (zk_R x3) (if 4 ≤ x3 then (some (.inr (x1))) else (zk_g (0 ≤ (821 * x3 + 0) ∧ (821 * x3 + 0) < 3305) (zk_g (zk_R (σ 0 (821 * x3 + 0))) (zk_n (α := Int) (31 * x1 + (σ 0 (821 * x3 + 0))) fun x1_7 => zk_n (α := Int) (x3 + 1) fun x3_8 => some (.inl (x1_7, x3_8))))))
def zm_digest_b128 (N : Nat) (x1 x3 x4 : Int) (σ : ZS) : Option ((Int × Int) ⊕ (Int)) :=
  zk_g (0 ≤ x3 ∧ x3 < 6) (zk_g (zk_R x4 ∧ zk_R (σ 3 x3)) (if (σ 3 x3) ≤ x4 then (some (.inr (x1))) else (zk_g (0 ≤ (40 * x3 + x4) ∧ (40 * x3 + x4) < 240) (zk_g (zk_R (σ 4 (40 * x3 + x4))) (zk_n (α := Int) (31 * x1 + (σ 4 (40 * x3 + x4))) fun x1_10 => zk_n (α := Int) (x4 + 1) fun x4_11 => some (.inl (x1_10, x4_11)))))))
def zm_digest_j165 (N : Nat) (x1 x3 : Int) (σ : ZS) : Option ((Int × Int) ⊕ (Int)) :=
  zk_n (α := Int) (x3 + 1) fun x3_12 => some (.inl (x1, x3_12))
def zm_digest_b105 (N : Nat) (x1 x3 : Int) (σ : ZS) : Option ((Int × Int) ⊕ (Int)) :=
  zk_g (zk_R x3) (if 6 ≤ x3 then (some (.inr (x1))) else (zk_g (0 ≤ x3 ∧ x3 < 6) (zk_g (zk_R (σ 3 x3)) (zk_n (α := Int) (31 * x1 + (σ 3 x3)) fun x1_9 => zk_b (zk_loop (α := Int × Int) (β := Int) N (fun a => zm_digest_b128 N a.1 x3 a.2 σ) (x1_9, 0)) (fun e => zm_digest_j165 N e x3 σ)))))
def zm_digest_b195 (N : Nat) (x1 x3 x4 : Int) (σ : ZS) : Option ((Int × Int) ⊕ (Int)) :=
  zk_g (0 ≤ x3 ∧ x3 < 4) (zk_g (zk_R x4 ∧ zk_R (σ 5 x3)) (if (σ 5 x3) ≤ x4 then (some (.inr (x1))) else (zk_g (0 ≤ (60 * x3 + x4) ∧ (60 * x3 + x4) < 240) (zk_g (zk_R (σ 6 (60 * x3 + x4))) (zk_n (α := Int) (31 * x1 + (σ 6 (60 * x3 + x4))) fun x1_14 => zk_n (α := Int) (x4 + 1) fun x4_15 => some (.inl (x1_14, x4_15)))))))
def zm_digest_j232 (N : Nat) (x1 x3 : Int) (σ : ZS) : Option ((Int × Int) ⊕ (Int)) :=
  zk_n (α := Int) (x3 + 1) fun x3_16 => some (.inl (x1, x3_16))
def zm_digest_b173 (N : Nat) (x1 x3 : Int) (σ : ZS) : Option ((Int × Int) ⊕ (Int)) :=
  zk_g (zk_R x3) (if 4 ≤ x3 then (some (.inr (x1))) else (zk_g (0 ≤ x3 ∧ x3 < 4) (zk_g (zk_R (σ 5 x3)) (zk_n (α := Int) (31 * x1 + (σ 5 x3)) fun x1_13 => zk_b (zk_loop (α := Int × Int) (β := Int) N (fun a => zm_digest_b195 N a.1 x3 a.2 σ) (x1_13, 0)) (fun e => zm_digest_j232 N e x3 σ)))))
def zm_digest_j238 (N : Nat) (x1 : Int) (σ : ZS) : Option (Int) :=
  some x1
def zm_digest_j171 (N : Nat) (x1 : Int) (σ : ZS) : Option (Int) :=
  zk_b (zk_loop (α := Int × Int) (β := Int) N (fun a => zm_digest_b173 N a.1 a.2 σ) (x1, 0)) (fun e => zm_digest_j238 N e σ)
def zm_digest_j103 (N : Nat) (x1 : Int) (σ : ZS) : Option (Int) :=
  zk_b (zk_loop (α := Int × Int) (β := Int) N (fun a => zm_digest_b105 N a.1 a.2 σ) (x1, 0)) (fun e => zm_digest_j171 N e σ)
def zm_digest_j70 (N : Nat) (x1 : Int) (σ : ZS) : Option (Int) :=
  zk_b (zk_loop (α := Int × Int) (β := Int) N (fun a => zm_digest_b72 N a.1 a.2 σ) (x1, 1)) (fun e => zm_digest_j103 N e σ)
def zm_digest_j31 (N : Nat) (x1 : Int) (σ : ZS) : Option (Int) :=
  zk_b (zk_loop (α := Int × Int) (β := Int) N (fun a => zm_digest_b33 N a.1 a.2 σ) (x1, 0)) (fun e => zm_digest_j70 N e σ)
def zm_digest (N : Nat) (σ : ZS) : Option (Int) :=
  zk_b (zk_loop (α := Int × Int) (β := Int) N (fun a => zm_digest_b6 N a.1 a.2 σ) (17, 0)) (fun e => zm_digest_j31 N e σ)
