section
/-! ===== pure pictures ===== -/
/-- a label's sum: its weight, or the impossible -/
def lc_F (w b : Int32) : Int32 := if b = 0 then w else -1000
/-- how many: one or none -/
def lc_G (b : Int32) : Int32 := if b = 0 then 1 else 0
/-- its product -/
def lc_P (w b : Int32) : Int64 := if b = 0 then w.toInt64 else 0
def lc_M (x y : Int32) : Int32 := if y ≤ x then x else y
/-- greatestSum over three sums -/
def lc_S (p q s : Int32) : Int32 := lc_M (lc_M (lc_M (-1000) p) q) s
/-- the first label that reaches s -/
def lc_C (p q s : Int32) : Nat := if 0 ≤ p ∧ p = s then 0 else if 0 ≤ q ∧ q = s then 1 else 2
def lc_N1 (s x c n : Int32) : Int32 := if x = s then c + n else c
/-- the law's greatest -/
def lc_Z (p q s : Int32) : Int32 := if p < q then (if q < s then s else q) else (if p < s then (if q < s then s else q) else p)
theorem lc_ix (a : Nat) : (3 : Int32) * 0 + nI a = nI a := by
  rw [show (3 : Int32) * 0 = 0 from by decide, Int32.zero_add]
theorem lc_jx (a : Nat) : (3 : Int32) * 1 - 3 + nI a = nI a := by
  rw [show (3 : Int32) * 1 - 3 = 0 from by decide, Int32.zero_add]
theorem lc_b8 : ∀ w, w < 10 → (nI w).toInt8.toInt32 = nI w := by decide +kernel
/-- the sum here and the law's number of the label j, weight n, the label k cut (k = 3: none) -/
def lc_y (k j n : Nat) : Int32 := if j = k then -1000 else nI n
def lc_x (k j n : Nat) : Int32 := if j = k then -1 else nI n
def lc_g (k j : Nat) : Int32 := if j = k then 0 else 1
def lc_p (k j n : Nat) : Int64 := if j = k then 0 else (nI n).toInt64
theorem lc_t1 : ∀ k, k < 4 → ∀ u, u < 10 → ∀ v, v < 10 → ∀ w, w < 10 → lc_S (lc_y k 0 u) (lc_y k 1 v) (lc_y k 2 w) = lc_Z (lc_x k 0 u) (lc_x k 1 v) (lc_x k 2 w) := by decide +kernel
theorem lc_t2 : ∀ k, k < 4 → ∀ u, u < 10 → ∀ v, v < 10 → ∀ w, w < 10 → 0 ≤ lc_Z (lc_x k 0 u) (lc_x k 1 v) (lc_x k 2 w) := by decide +kernel
theorem lc_t3 : ∀ k, k < 4 → ∀ u, u < 10 → ∀ v, v < 10 → ∀ w, w < 10 → nI (lc_C (lc_y k 0 u) (lc_y k 1 v) (lc_Z (lc_x k 0 u) (lc_x k 1 v) (lc_x k 2 w))) = if lc_x k 0 u = lc_Z (lc_x k 0 u) (lc_x k 1 v) (lc_x k 2 w) then 0 else if lc_x k 1 v = lc_Z (lc_x k 0 u) (lc_x k 1 v) (lc_x k 2 w) then 1 else 2 := by decide +kernel
/-- the count, as it is added -/
def lc_N (s : Int32) (y0 y1 y2 g0 g1 g2 : Int32) : Int32 := lc_N1 s y2 (lc_N1 s y1 (lc_N1 s y0 0 g0) g1) g2
theorem lc_t4 : ∀ k, k < 4 → ∀ u, u < 10 → ∀ v, v < 10 → ∀ w, w < 10 → lc_N (lc_Z (lc_x k 0 u) (lc_x k 1 v) (lc_x k 2 w)) (lc_y k 0 u) (lc_y k 1 v) (lc_y k 2 w) (lc_g k 0) (lc_g k 1) (lc_g k 2) = (if lc_x k 0 u = lc_Z (lc_x k 0 u) (lc_x k 1 v) (lc_x k 2 w) then 1 else 0) + (if lc_x k 1 v = lc_Z (lc_x k 0 u) (lc_x k 1 v) (lc_x k 2 w) then 1 else 0) + (if lc_x k 2 w = lc_Z (lc_x k 0 u) (lc_x k 1 v) (lc_x k 2 w) then 1 else 0) := by decide +kernel
/-- the best through one label -/
def lc_B (y w : Int32) : Int32 := if y < 0 then -2 else (if 0 ≤ y then y + y - w else -2)
theorem lc_t5 : ∀ k, k < 4 → ∀ j, j < 3 → ∀ n, n < 10 → lc_B (lc_y k j n) (nI n) = if 0 ≤ lc_x k j n then lc_x k j n else -2 := by decide +kernel
theorem lc_t6 : ∀ k, k < 4 → ∀ u, u < 10 → ∀ v, v < 10 → ∀ w, w < 10 → lc_p k 0 u + lc_p k 1 v + lc_p k 2 w = (nI u).toInt64 + (nI v).toInt64 + (nI w).toInt64 - (if k = 0 then nI u else if k = 1 then nI v else if k = 2 then nI w else 0).toInt64 := by decide +kernel
end
section
/-! ===== the small methods ===== -/
section
variable {post : St2 → Prop} {p : Int32 → Prop} {pp : Int32 → St2 → Prop} {mc ms kc ks : Nat} {f0 r : Int32} {a1 a2 a3 a4 a5 a6 a7 a8 : Nat → Int32} {a9 a10 : Nat → Int64} {a11 a12 a13 a14 : Nat → Int32}
theorem lc_i164 (H : ∀ b, post (1, r, a1, a2, b, a4, a5, a6, a7, a8, a9, a10, a11, a12, a13, a14)) : ∃ n, wX_init_164 post mc ms kc ks 1 r n 0 a1 a2 a3 a4 a5 a6 a7 a8 a9 a10 a11 a12 a13 a14 :=
  pk_loop (fun n i s => wX_init_164 post mc ms kc ks 1 r n (nI i) a1 a2 s a4 a5 a6 a7 a8 a9 a10 a11 a12 a13 a14) (fun _ _ => True) 9 0 a3 (by omega) trivial
    (fun n s _ => pk_le 9 9 (fun _ => H s) (fun z => absurd z (by omega)))
    (fun n i s hi _ hw => pk_le 9 i (fun z => absurd z (by omega)) (fun _ => ⟨pk_in i 9 hi, nm_e (nm_r (nI_1 i) (hw _ trivial))⟩))
theorem lc_i143 (H : ∀ b1 b3, post (1, r, b1, a2, b3, a4, a5, a6, a7, a8, a9, a10, a11, a12, a13, a14)) : ∃ n, wX_init_143 post mc ms kc ks 1 r n 0 a1 a2 a3 a4 a5 a6 a7 a8 a9 a10 a11 a12 a13 a14 :=
  pk_loop (fun n i s => wX_init_143 post mc ms kc ks 1 r n (nI i) s a2 a3 a4 a5 a6 a7 a8 a9 a10 a11 a12 a13 a14) (fun _ _ => True) 18 0 a1 (by omega) trivial
    (fun n s _ => pk_le 18 18 (fun _ => lc_i164 (fun b => H s b)) (fun z => absurd z (by omega)))
    (fun n i s hi _ hw => pk_le 18 i (fun z => absurd z (by omega)) (fun _ => ⟨pk_in i 18 hi, nm_e (nm_r (nI_1 i) (hw _ trivial))⟩))
theorem lc_init (H : ∀ b1 b3, post (1, 0, b1, (fun _ => 0), b3, (fun _ => 0), (fun _ => 0), (fun _ => 0), (fun _ => 0), (fun _ => 0), (fun _ => 0), (fun _ => 0), (fun _ => 0), (fun _ => 0), (fun _ => 0), (fun _ => 0))) : wpX_init post 14 224 (0, 0) 0 :=
  ⟨by decide, by decide, by decide, by decide, by decide, by decide, by decide, by decide, by decide, by decide, by decide, by decide, by decide, by decide, by decide, by decide, by decide, by decide, by decide, by decide, by decide, by decide, by decide, by decide, by decide, by decide, by decide, by decide, br_f (by decide) (lc_i143 H)⟩
theorem lc_isLabel {a : Nat} (ha : a < 3) (H : p 1) : wpX_isLabel p (f0, r, a1, a2, a3, a4, a5, a6, a7, a8, a9, a10, a11, a12, a13, a14) (nI a) :=
  pk_lt a 0 (fun z => absurd z (by omega)) (fun _ => pk_lt 2 a (fun z => absurd z (by omega)) (fun _ => H))
theorem lc_notLabel {x : Int32} (hx : x < 0 ∨ 2 < x) (H : p 0) : wpX_isLabel p (f0, r, a1, a2, a3, a4, a5, a6, a7, a8, a9, a10, a11, a12, a13, a14) x :=
  br_c (fun _ => H) (fun z => br_t (hx.resolve_left z) H)
theorem lc_place {a : Nat} (ha : a < 3) (H : p 1) : wpX_isPlace p (1, r, a1, a2, a3, a4, a5, a6, a7, a8, a9, a10, a11, a12, a13, a14) 0 (nI a) := by
  refine br_f (by decide) (br_f (by decide) ?_)
  exact lc_isLabel ha (br_f (by decide) H)
theorem lc_noPlace {x : Int32} (hx : x < 0 ∨ 2 < x) (H : p 0) : wpX_isPlace p (1, r, a1, a2, a3, a4, a5, a6, a7, a8, a9, a10, a11, a12, a13, a14) 0 x := by
  refine br_f (by decide) (br_f (by decide) ?_)
  exact lc_notLabel hx (br_t rfl H)
theorem lc_weigh {a w : Nat} (ha : a < 3) (hw : w < 10) (H : pp 1 (1, 0, upd a1 a (nI w), a2, a3, a4, a5, a6, a7, a8, a9, a10, a11, a12, a13, a14)) : wpX_weigh pp (1, r, a1, a2, a3, a4, a5, a6, a7, a8, a9, a10, a11, a12, a13, a14) 0 (nI a) (nI w) := by
  unfold wpX_weigh
  dsimp only
  refine lc_place ha (br_f (by decide) (pk_lt w 0 (fun z => absurd z (by omega)) (fun _ => pk_le w 9 (fun _ => ⟨?_, ?_⟩) (fun z => absurd z (by omega)))))
  · rw [lc_ix]; exact pk_in a 18 (by omega)
  · rw [lc_ix, nI_clamp (by omega), lc_b8 w hw]
    exact nm_e H
theorem lc_bar {a : Nat} (ha : a < 3) (H : pp 1 (1, 0, a1, upd a2 a 1, a3, a4, a5, a6, a7, a8, a9, a10, a11, a12, a13, a14)) : wpX_bar pp (1, r, a1, a2, a3, a4, a5, a6, a7, a8, a9, a10, a11, a12, a13, a14) 0 (nI a) 1 := by
  unfold wpX_bar
  dsimp only
  refine lc_place ha (br_f (by decide) ⟨?_, ?_⟩)
  · rw [lc_ix]; exact pk_in a 18 (by omega)
  · rw [lc_ix, nI_clamp (by omega), show vp_nar .boolean 1 = 1 from by decide]
    exact nm_e H
theorem lc_noBar {x y : Int32} (hx : x < 0 ∨ 2 < x) (H : pp 0 (1, r, a1, a2, a3, a4, a5, a6, a7, a8, a9, a10, a11, a12, a13, a14)) : wpX_bar pp (1, r, a1, a2, a3, a4, a5, a6, a7, a8, a9, a10, a11, a12, a13, a14) 0 x y := by
  unfold wpX_bar
  dsimp only
  exact lc_noPlace hx (br_t rfl H)
end
end
section
/-! ===== rankSums: ends, and changes the three tables of tops alone ===== -/
section
variable {post : St2 → Prop} {p : Int32 → Prop} {f0 r : Int32} {a1 a2 a3 a4 a5 a6 a7 a8 : Nat → Int32} {a9 a10 : Nat → Int64} {a11 a12 a13 a14 : Nat → Int32}
theorem lc_o18 {x : Int32} (H : ∀ b, post (f0, r, a1, a2, a3, a4, a5, a6, a7, a8, a9, a10, a11, b, a13, a14)) : ∀ (k : Nat) (s : Nat → Int32), k < 24 → wX_offer_18 post 0 x f0 r (k + 1) (nI k) a1 a2 a3 a4 a5 a6 a7 a8 a9 a10 a11 s a13 a14
  | 0, s, _ => pk_le 0 0 (fun _ => ⟨pk_in 0 24 (by omega), nm_e (H _)⟩) (fun z => absurd z (by omega))
  | k + 1, s, h => pk_le (k + 1) 0 (fun z => absurd z (by omega)) (fun _ => ⟨pk_in k 24 (by omega) (nI_pred k), br_c (fun _ => ⟨pk_in (k + 1) 24 h, nm_e (H _)⟩) (fun _ => ⟨pk_in k 24 (by omega) (nI_pred k), pk_in (k + 1) 24 h, nm_e (nm_r (pk_m1 k) (lc_o18 H k _ (by omega)))⟩)⟩)
theorem lc_offer {x : Int32} (H : ∀ b, post (f0, r, a1, a2, a3, a4, a5, a6, a7, a8, a9, a10, a11, b, a13, a14)) : wpX_offer post (f0, r, a1, a2, a3, a4, a5, a6, a7, a8, a9, a10, a11, a12, a13, a14) 0 x :=
  nm_r (show (0 : Int32) + 8 - 1 = nI 7 from by decide) ⟨pk_in 7 24 (by omega), br_c (fun _ => ⟨8, lc_o18 H 7 _ (by omega)⟩) (fun _ => H _)⟩
theorem lc_r200 (H : ∀ b, post (1, r, a1, a2, a3, a4, a5, a6, a7, a8, a9, a10, a11, a12, b, a14)) : ∃ n, wX_rankSums_200 post 1 r n 0 a1 a2 a3 a4 a5 a6 a7 a8 a9 a10 a11 a12 a13 a14 :=
  pk_loop (fun n i s => wX_rankSums_200 post 1 r n (nI i) a1 a2 a3 a4 a5 a6 a7 a8 a9 a10 a11 a12 s a14) (fun _ _ => True) 8 0 a13 (by omega) trivial
    (fun n s _ => pk_le 8 8 (fun _ => H s) (fun z => absurd z (by omega)))
    (fun n i s hi _ hw => pk_le 8 i (fun z => absurd z (by omega)) (fun _ => ⟨pk_in i 24 (by omega), pk_in i 8 hi, nm_e (nm_r (nI_1 i) (hw _ trivial))⟩))
theorem lc_r166 (H : ∀ b12 b13, post (1, r, a1, a2, a3, a4, a5, a6, a7, a8, a9, a10, a11, b12, b13, a14)) : ∃ n, wX_rankSums_166 post n 0 1 r a1 a2 a3 a4 a5 a6 a7 a8 a9 a10 a11 a12 a13 a14 :=
  pk_loop (fun n i s => wX_rankSums_166 post n (nI i) 1 r a1 a2 a3 a4 a5 a6 a7 a8 a9 a10 a11 s a13 a14) (fun _ _ => True) 24 0 a12 (by omega) trivial
    (fun n s _ => pk_le 24 24 (fun _ => lc_r200 (fun b => H s b)) (fun z => absurd z (by omega)))
    (fun n i s hi _ hw => pk_le 24 i (fun z => absurd z (by omega)) (fun _ => ⟨pk_in i 24 hi, br_c (fun _ => nm_r (nI_1 i) (hw _ trivial)) (fun _ => ⟨pk_in i 24 hi, lc_offer (fun b => nm_r (nI_1 i) (hw b trivial))⟩)⟩))
theorem lc_r143 (H : ∀ b12 b13, post (1, r, a1, a2, a3, a4, a5, a6, a7, a8, a9, a10, a11, b12, b13, a14)) : ∃ n, wX_rankSums_143 post 1 r n 0 a1 a2 a3 a4 a5 a6 a7 a8 a9 a10 a11 a12 a13 a14 :=
  pk_loop (fun n i s => wX_rankSums_143 post 1 r n (nI i) a1 a2 a3 a4 a5 a6 a7 a8 a9 a10 a11 s a13 a14) (fun _ _ => True) 8 0 a12 (by omega) trivial
    (fun n s _ => pk_le 8 8 (fun _ => lc_r166 H) (fun z => absurd z (by omega)))
    (fun n i s hi _ hw => pk_le 8 i (fun z => absurd z (by omega)) (fun _ => ⟨pk_in i 24 (by omega), nm_e (nm_r (nI_1 i) (hw _ trivial))⟩))
theorem lc_r53 (H : ∀ b12 b13, post (1, r, a1, a2, a3, a4, a5, a6, a7, a8, a9, a10, a11, b12, b13, a14)) : ∃ n, wX_rankSums_53 post n 1 1 r a1 a2 a3 a4 a5 a6 a7 a8 a9 a10 a11 a12 a13 a14 :=
  ⟨0 + 1, br_t (by decide) (lc_r143 H)⟩
theorem lc_r25 (H : ∀ b11 b12 b13, post (1, r, a1, a2, a3, a4, a5, a6, a7, a8, a9, a10, b11, b12, b13, a14)) : ∃ n, wX_rankSums_25 post 1 r n 0 a1 a2 a3 a4 a5 a6 a7 a8 a9 a10 a11 a12 a13 a14 :=
  pk_loop (fun n i s => wX_rankSums_25 post 1 r n (nI i) a1 a2 a3 a4 a5 a6 a7 a8 a9 a10 s a12 a13 a14) (fun _ _ => True) 3 0 a11 (by omega) trivial
    (fun n s _ => pk_le 3 3 (fun _ => lc_r53 (H s)) (fun z => absurd z (by omega)))
    (fun n i s hi _ hw => pk_le 3 i (fun z => absurd z (by omega)) (fun _ => ⟨pk_in i 18 (by omega), pk_in (8 * i) 24 (by omega) (pk_mul 8 i), nm_e (nm_r (nI_1 i) (hw _ trivial))⟩))
theorem lc_r2 (H : ∀ b11 b12 b13, post (1, r, a1, a2, a3, a4, a5, a6, a7, a8, a9, a10, b11, b12, b13, a14)) : ∃ n, wX_rankSums_2 post 1 r n 0 a1 a2 a3 a4 a5 a6 a7 a8 a9 a10 a11 a12 a13 a14 :=
  pk_loop (fun n i s => wX_rankSums_2 post 1 r n (nI i) a1 a2 a3 a4 a5 a6 a7 a8 a9 a10 s a12 a13 a14) (fun _ _ => True) 24 0 a11 (by omega) trivial
    (fun n s _ => pk_le 24 24 (fun _ => lc_r25 H) (fun z => absurd z (by omega)))
    (fun n i s hi _ hw => pk_le 24 i (fun z => absurd z (by omega)) (fun _ => ⟨pk_in i 24 hi, nm_e (nm_r (nI_1 i) (hw _ trivial))⟩))
theorem lc_rank (H : ∀ b11 b12 b13, post (1, r, a1, a2, a3, a4, a5, a6, a7, a8, a9, a10, b11, b12, b13, a14)) : wpX_rankSums post (1, r, a1, a2, a3, a4, a5, a6, a7, a8, a9, a10, a11, a12, a13, a14) :=
  lc_r2 H
/-! ===== greatestSum ===== -/
theorem lc_gs1 {n i : Nat} {x : Int32} (hi : i < 3) (H : wX_greatestSum_6 p 1 r a1 a2 a3 a4 a5 a6 a7 a8 a9 a10 a11 a12 a13 a14 n (lc_M x (a5 i)) (nI (i + 1))) : wX_greatestSum_6 p 1 r a1 a2 a3 a4 a5 a6 a7 a8 a9 a10 a11 a12 a13 a14 (n + 1) x (nI i) := by
  refine pk_le 3 i (fun z => absurd z (by omega)) (fun _ => ?_)
  rw [lc_jx, nI_clamp (show i < 2 ^ 31 by omega)]
  refine ⟨pk_in i 18 (by omega), br_c (fun h => ?_) (fun h => ⟨pk_in i 18 (by omega), nm_e ?_⟩)⟩
  · rw [lc_M, if_pos h] at H
    exact nm_r (nI_1 i) H
  · rw [lc_M, if_neg h] at H
    exact nm_r (nI_1 i) H
theorem lc_gs (H : p (lc_S (a5 0) (a5 1) (a5 2))) : wpX_greatestSum p (1, r, a1, a2, a3, a4, a5, a6, a7, a8, a9, a10, a11, a12, a13, a14) :=
  ⟨0 + 1 + 1 + 1 + 1, lc_gs1 (i := 0) (by omega) (lc_gs1 (i := 1) (by omega) (lc_gs1 (i := 2) (by omega) (br_t (by decide) H)))⟩
end
end
section
/-! ===== fill ===== -/
section
variable {post : St2 → Prop} {p : Int32 → Prop} {f0 r s : Int32} {a1 a2 a3 a4 a5 a6 a7 a8 : Nat → Int32} {a9 a10 : Nat → Int64} {a11 a12 a13 a14 : Nat → Int32}
theorem lc_start {a : Nat} (ha : a < 18) (H : post (f0, r, a1, a2, a3, a4, upd a5 a (lc_F (a1 a) (a2 a)), a6, upd a7 a (lc_G (a2 a)), upd a8 a (lc_G (a2 a)), vp_updL a9 a (lc_P (a1 a) (a2 a)), a10, a11, a12, a13, a14)) : wpX_startFront post (f0, r, a1, a2, a3, a4, a5, a6, a7, a8, a9, a10, a11, a12, a13, a14) (nI a) := by
  have e : (nI a).toNatClampNeg = a := nI_clamp (by omega)
  have hin : vp_in (nI a) 18 := pk_in a 18 ha
  unfold wpX_startFront
  dsimp only
  rw [e]
  by_cases h : a2 a = 0
  · rw [lc_F, lc_G, lc_P, if_pos h, if_pos h, if_pos h] at H
    refine ⟨hin, nm_e (br_t h ⟨hin, ?_⟩)⟩
    unfold wX_startFront_28
    rw [e]
    refine ⟨hin, nm_e (br_t h ?_)⟩
    unfold wX_startFront_43
    rw [e]
    refine ⟨hin, nm_e (br_t h ?_)⟩
    unfold wX_startFront_58
    rw [e]
    exact ⟨hin, nm_e (br_t h ⟨hin, hin, nm_e H⟩)⟩
  · rw [lc_F, lc_G, lc_P, if_neg h, if_neg h, if_neg h] at H
    refine ⟨hin, nm_e (br_f h ?_)⟩
    unfold wX_startFront_28
    rw [e]
    refine ⟨hin, nm_e (br_f h ?_)⟩
    unfold wX_startFront_43
    rw [e]
    refine ⟨hin, nm_e (br_f h ?_)⟩
    unfold wX_startFront_58
    rw [e]
    exact ⟨hin, nm_e (br_f h ⟨hin, nm_e H⟩)⟩
theorem lc_back32 {a : Nat} {z : Int32} (ha : a < 18) (H : post (1, r, a1, a2, a3, a4, a5, upd a6 a z, a7, a8, a9, vp_updL a10 a 1, a11, a12, a13, a14)) : wX_fillBack_32 post 0 (nI a) (nI a) z (nI a) 1 r a1 a2 a3 a4 a5 a6 a7 a8 a9 a10 a11 a12 a13 a14 := by
  have e : (nI a).toNatClampNeg = a := nI_clamp (by omega)
  have hin : vp_in (nI a) 18 := pk_in a 18 ha
  unfold wX_fillBack_32
  rw [e]
  exact ⟨hin, nm_e ⟨hin, nm_e (br_t (by decide) H)⟩⟩
theorem lc_back {a : Nat} (ha : a < 18) (H : post (1, r, a1, a2, a3, a4, a5, upd a6 a (lc_F (a1 a) (a2 a)), a7, a8, a9, vp_updL a10 a 1, a11, a12, a13, a14)) : wpX_fillBack post (1, r, a1, a2, a3, a4, a5, a6, a7, a8, a9, a10, a11, a12, a13, a14) 0 (nI a) := by
  have e : (nI a).toNatClampNeg = a := nI_clamp (by omega)
  have hin : vp_in (nI a) 18 := pk_in a 18 ha
  refine nm_r (lc_ix a) ?_
  rw [e]
  refine ⟨hin, br_c (fun h => ⟨hin, lc_back32 ha ?_⟩) (fun h => lc_back32 ha ?_)⟩
  · rw [lc_F, if_pos h] at H
    exact H
  · rw [lc_F, if_neg h] at H
    exact H
theorem lc_reaches {a : Nat} (ha : a < 3) (H1 : 0 ≤ a6 a ∧ a6 a = s → p 1) (H0 : ¬ (0 ≤ a6 a ∧ a6 a = s) → p 0) : wpX_reaches p (1, r, a1, a2, a3, a4, a5, a6, a7, a8, a9, a10, a11, a12, a13, a14) 0 (nI a) s := by
  unfold wpX_reaches
  dsimp only
  rw [lc_ix, nI_clamp (show a < 2 ^ 31 by omega)]
  exact ⟨pk_in a 18 (by omega), nm_e (br_c (fun h => br_t rfl (br_c (fun g => H1 ⟨h, g⟩) (fun g => H0 (fun t => g t.2)))) (fun h => H0 (fun t => h t.1)))⟩
theorem lc_c38 {n k : Nat} (hk : k < 3) (H : post (1, r, a1, a2, a3, a4, a5, a6, a7, a8, a9, a10, a11, a12, a13, upd a14 0 (nI k))) : wX_choose_38 post (wX_choose_7 post 1 r (n + 1)) s 0 (nI k) 1 r a1 a2 a3 a4 a5 a6 a7 a8 a9 a10 a11 a12 a13 a14 := by
  unfold wX_choose_38
  rw [sb_cl0, lc_b8 k (by omega)]
  refine ⟨pk_in 0 6 (by omega), nm_e (br_t (by decide) ?_)⟩
  unfold wX_choose_70
  refine ⟨?_, nm_e (nm_r (show (0 : Int32) + 1 = 1 from by decide) (br_t (by decide) H))⟩
  rw [lc_ix]
  exact pk_in k 18 (by omega)
theorem lc_c17 {n : Nat} (H : post (1, r, a1, a2, a3, a4, a5, a6, a7, a8, a9, a10, a11, a12, a13, upd a14 0 (nI (lc_C (a6 0) (a6 1) s)))) : wX_choose_17 post (wX_choose_7 post 1 r (n + 1)) s 0 1 r a1 a2 a3 a4 a5 a6 a7 a8 a9 a10 a11 a12 a13 a14 (0 + 1 + 1 + 1) 0 := by
  refine br_f (by decide) (lc_reaches (a := 0) (by omega) (fun h => br_f (by decide) ?_) (fun h => br_t rfl (nm_r (show (0 : Int32) + 1 = nI 1 from by decide) (br_f (by decide) (lc_reaches (a := 1) (by omega) (fun h' => br_f (by decide) ?_) (fun h' => br_t rfl (nm_r (show nI 1 + 1 = nI 2 from by decide) (br_t (by decide) ?_))))))))
  · rw [lc_C, if_pos h] at H
    exact lc_c38 (k := 0) (by omega) H
  · rw [lc_C, if_neg h, if_pos h'] at H
    exact lc_c38 (k := 1) (by omega) H
  · rw [lc_C, if_neg h, if_neg h'] at H
    exact lc_c38 (k := 2) (by omega) H
theorem lc_choose (H : post (1, r, a1, a2, a3, a4, a5, a6, a7, a8, a9, a10, a11, a12, a13, upd a14 0 (nI (lc_C (a6 0) (a6 1) (lc_S (a5 0) (a5 1) (a5 2)))))) : wpX_choose post (1, r, a1, a2, a3, a4, a5, a6, a7, a8, a9, a10, a11, a12, a13, a14) := by
  unfold wpX_choose
  dsimp only
  exact lc_gs ⟨0 + 1 + 1, br_f (by decide) ⟨0 + 1 + 1 + 1, lc_c17 H⟩⟩
theorem lc_f79 {n : Nat} (H : wX_fill_73 post (n + 1) (-1) 1 r a1 a2 a3 a4 a5 (upd (upd (upd a6 0 (lc_F (a1 0) (a2 0))) 1 (lc_F (a1 1) (a2 1))) 2 (lc_F (a1 2) (a2 2))) a7 a8 a9 (vp_updL (vp_updL (vp_updL a10 0 1) 1 1) 2 1) a11 a12 a13 a14) : wX_fill_73 post (n + 1 + 1) 0 1 r a1 a2 a3 a4 a5 a6 a7 a8 a9 a10 a11 a12 a13 a14 := by
  refine br_f (by decide) ⟨0 + 1 + 1 + 1 + 1, br_f (by decide) (lc_back (a := 0) (by omega) (nm_r (show (0 : Int32) + 1 = nI 1 from by decide) (br_f (by decide) (lc_back (a := 1) (by omega) (nm_r (show nI 1 + 1 = nI 2 from by decide) (br_f (by decide) (lc_back (a := 2) (by omega) (nm_r (show nI 2 + 1 = nI 3 from by decide) (br_t (by decide) (nm_r (show (0 : Int32) + (-1) = -1 from by decide) H))))))))))⟩
theorem lc_f73 {n : Nat} (hs : ¬ lc_S (a5 0) (a5 1) (a5 2) < 0) (H : ∀ b11 b12 b13, post (1, r, a1, a2, a3, a4, a5, a6, a7, a8, a9, a10, b11, b12, b13, upd a14 0 (nI (lc_C (a6 0) (a6 1) (lc_S (a5 0) (a5 1) (a5 2)))))) : wX_fill_73 post (n + 1) (-1) 1 r a1 a2 a3 a4 a5 a6 a7 a8 a9 a10 a11 a12 a13 a14 :=
  br_t (by decide) (lc_rank (fun b11 b12 b13 => lc_gs (br_f hs (lc_choose (H b11 b12 b13)))))
theorem lc_f15 {n : Nat} (H : ∃ k, wX_fill_73 post k 0 1 r a1 a2 a3 a4 (upd (upd (upd a5 0 (lc_F (a1 0) (a2 0))) 1 (lc_F (a1 1) (a2 1))) 2 (lc_F (a1 2) (a2 2))) a6 (upd (upd (upd a7 0 (lc_G (a2 0))) 1 (lc_G (a2 1))) 2 (lc_G (a2 2))) (upd (upd (upd a8 0 (lc_G (a2 0))) 1 (lc_G (a2 1))) 2 (lc_G (a2 2))) (vp_updL (vp_updL (vp_updL a9 0 (lc_P (a1 0) (a2 0))) 1 (lc_P (a1 1) (a2 1))) 2 (lc_P (a1 2) (a2 2))) a10 a11 a12 a13 a14) : wX_fill_15 post (n + 1 + 1 + 1 + 1) 0 1 r a1 a2 a3 a4 a5 a6 a7 a8 a9 a10 a11 a12 a13 a14 := by
  refine br_f (by decide) (lc_start (a := 0) (by omega) (nm_r (show (0 : Int32) + 1 = nI 1 from by decide) (br_f (by decide) (lc_start (a := 1) (by omega) (nm_r (show nI 1 + 1 = nI 2 from by decide) (br_f (by decide) (lc_start (a := 2) (by omega) (nm_r (show nI 2 + 1 = nI 3 from by decide) (br_t (by decide) ⟨0 + 1, br_t (by decide) (nm_r (show (1 : Int32) - 1 = 0 from by decide) H)⟩)))))))))
/-- what fill leaves -/
theorem lc_fill (hs : ¬ lc_S (lc_F (a1 0) (a2 0)) (lc_F (a1 1) (a2 1)) (lc_F (a1 2) (a2 2)) < 0)
    (H : ∀ (b5 b6 b7 b8 : Nat → Int32) (b9 b10 : Nat → Int64) (b11 b12 b13 b14 : Nat → Int32), (∀ j, j < 3 → b5 j = lc_F (a1 j) (a2 j) ∧ b6 j = lc_F (a1 j) (a2 j) ∧ b7 j = lc_G (a2 j) ∧ b8 j = lc_G (a2 j) ∧ b9 j = lc_P (a1 j) (a2 j)) →
      b14 0 = nI (lc_C (lc_F (a1 0) (a2 0)) (lc_F (a1 1) (a2 1)) (lc_S (lc_F (a1 0) (a2 0)) (lc_F (a1 1) (a2 1)) (lc_F (a1 2) (a2 2)))) →
      post (1, 1, a1, a2, a3, a4, b5, b6, b7, b8, b9, b10, b11, b12, b13, b14)) : wpX_fill post (1, 0, a1, a2, a3, a4, a5, a6, a7, a8, a9, a10, a11, a12, a13, a14) := by
  refine br_t rfl ⟨0 + 1 + 1 + 1 + 1, lc_f15 ⟨0 + 1 + 1, lc_f79 (lc_f73 hs (fun b11 b12 b13 => H _ _ _ _ _ _ _ _ _ _ ?_ rfl))⟩⟩
  intro j hj
  match j, hj with
  | 0, _ => exact ⟨rfl, rfl, rfl, rfl, rfl⟩
  | 1, _ => exact ⟨rfl, rfl, rfl, rfl, rfl⟩
  | 2, _ => exact ⟨rfl, rfl, rfl, rfl, rfl⟩
theorem lc_fill1 (H : post (1, 1, a1, a2, a3, a4, a5, a6, a7, a8, a9, a10, a11, a12, a13, a14)) : wpX_fill post (1, 1, a1, a2, a3, a4, a5, a6, a7, a8, a9, a10, a11, a12, a13, a14) := br_f (by decide) H
end
end
section
/-! ===== the answers over a state that is ready ===== -/
section
variable {pp : Int32 → St2 → Prop} {pl : Int64 → St2 → Prop} {r s : Int32} {a1 a2 a3 a4 a5 a6 a7 a8 : Nat → Int32} {a9 a10 : Nat → Int64} {a11 a12 a13 a14 : Nat → Int32}
theorem lc_label (hs : 0 ≤ lc_S (a5 0) (a5 1) (a5 2)) (H : pp (a14 0) (1, 1, a1, a2, a3, a4, a5, a6, a7, a8, a9, a10, a11, a12, a13, a14)) : wpX_label pp (1, 1, a1, a2, a3, a4, a5, a6, a7, a8, a9, a10, a11, a12, a13, a14) 0 := by
  refine br_f (by decide) (br_t (by decide) (lc_fill1 (lc_gs (br_t hs ⟨pk_in 0 6 (by omega), ?_⟩))))
  rw [sb_cl0]
  exact H
theorem lc_bc1 {n i : Nat} {c : Int32} (hi : i < 3) (H : wX_bestCount_19 pp s 1 r a1 a2 a3 a4 a5 a6 a7 a8 a9 a10 a11 a12 a13 a14 n (lc_N1 s (a5 i) c (a8 i)) (nI (i + 1))) : wX_bestCount_19 pp s 1 r a1 a2 a3 a4 a5 a6 a7 a8 a9 a10 a11 a12 a13 a14 (n + 1) c (nI i) := by
  refine pk_le 3 i (fun z => absurd z (by omega)) (fun _ => ?_)
  rw [lc_jx, nI_clamp (show i < 2 ^ 31 by omega)]
  refine ⟨pk_in i 18 (by omega), br_c (fun h => ⟨pk_in i 18 (by omega), nm_e ?_⟩) (fun h => ?_)⟩
  · rw [lc_N1, if_pos h] at H
    exact nm_r (nI_1 i) H
  · rw [lc_N1, if_neg h] at H
    exact nm_r (nI_1 i) H
theorem lc_bestCount (hs : 0 ≤ lc_S (a5 0) (a5 1) (a5 2)) (H : pp (lc_N (lc_S (a5 0) (a5 1) (a5 2)) (a5 0) (a5 1) (a5 2) (a8 0) (a8 1) (a8 2)) (1, 1, a1, a2, a3, a4, a5, a6, a7, a8, a9, a10, a11, a12, a13, a14)) : wpX_bestCount pp (1, 1, a1, a2, a3, a4, a5, a6, a7, a8, a9, a10, a11, a12, a13, a14) := by
  unfold wpX_bestCount
  dsimp only
  refine lc_fill1 (lc_gs (br_t hs ⟨0 + 1 + 1 + 1 + 1, ?_⟩))
  exact lc_bc1 (i := 0) (by omega) (lc_bc1 (i := 1) (by omega) (lc_bc1 (i := 2) (by omega) (br_t (by decide) H)))
theorem lc_through {j : Nat} {v : Int32} (hj : j < 3) (h6 : a6 j = a5 j) (hv : lc_B (a5 j) (a1 j) = v) (H : pp v (1, 1, a1, a2, a3, a4, a5, a6, a7, a8, a9, a10, a11, a12, a13, a14)) : wpX_bestThrough pp (1, 1, a1, a2, a3, a4, a5, a6, a7, a8, a9, a10, a11, a12, a13, a14) 0 (nI j) := by
  subst hv
  unfold wpX_bestThrough
  dsimp only
  refine lc_place hj (br_f (by decide) (lc_fill1 (nm_r (lc_ix j) ?_)))
  dsimp only
  rw [nI_clamp (show j < 2 ^ 31 by omega), h6]
  have hin : vp_in (nI j) 18 := pk_in j 18 (by omega)
  refine ⟨hin, br_c (fun h => ?_) (fun h => ⟨hin, br_c (fun h' => ⟨hin, hin, hin, ?_⟩) (fun h' => ?_)⟩)⟩
  · rw [lc_B, if_pos h] at H
    exact H
  · rw [lc_B, if_neg h, if_pos h'] at H
    exact H
  · rw [lc_B, if_neg h, if_neg h'] at H
    exact H
theorem lc_noThrough {x : Int32} (hx : x < 0 ∨ 2 < x) (H : pp (-1) (1, 1, a1, a2, a3, a4, a5, a6, a7, a8, a9, a10, a11, a12, a13, a14)) : wpX_bestThrough pp (1, 1, a1, a2, a3, a4, a5, a6, a7, a8, a9, a10, a11, a12, a13, a14) 0 x := by
  unfold wpX_bestThrough
  dsimp only
  exact lc_noPlace hx (br_t rfl H)
theorem lc_c0 : (3 : Int32) * 1 - 3 = nI 0 := by decide
theorem lc_total (H : pl (a9 0 + a9 1 + a9 2) (1, 1, a1, a2, a3, a4, a5, a6, a7, a8, a9, a10, a11, a12, a13, a14)) : wpX_total pl (1, 1, a1, a2, a3, a4, a5, a6, a7, a8, a9, a10, a11, a12, a13, a14) := by
  unfold wpX_total
  dsimp only
  refine lc_fill1 (nm_r lc_c0 ?_)
  rw [show nI 0 + 1 = nI 1 from by decide, show nI 0 + 2 = nI 2 from by decide, nI_clamp (n := 0) (by omega), nI_clamp (n := 1) (by omega), nI_clamp (n := 2) (by omega)]
  exact ⟨pk_in 0 18 (by omega), pk_in 1 18 (by omega), pk_in 2 18 (by omega), H⟩
theorem lc_allowed (H : pp (a7 0 + a7 1 + a7 2) (1, 1, a1, a2, a3, a4, a5, a6, a7, a8, a9, a10, a11, a12, a13, a14)) : wpX_allowed pp (1, 1, a1, a2, a3, a4, a5, a6, a7, a8, a9, a10, a11, a12, a13, a14) := by
  unfold wpX_allowed
  dsimp only
  refine lc_fill1 (nm_r lc_c0 ?_)
  rw [show nI 0 + 1 = nI 1 from by decide, show nI 0 + 2 = nI 2 from by decide, nI_clamp (n := 0) (by omega), nI_clamp (n := 1) (by omega), nI_clamp (n := 2) (by omega)]
  exact ⟨pk_in 0 18 (by omega), pk_in 1 18 (by omega), pk_in 2 18 (by omega), H⟩
theorem lc_couple {x : Int32} (H : pl 0 (1, r, a1, a2, a3, a4, a5, a6, a7, a8, a9, a10, a11, a12, a13, a14)) : wpX_throughCouple pl (1, r, a1, a2, a3, a4, a5, a6, a7, a8, a9, a10, a11, a12, a13, a14) 0 x :=
  br_f (by decide) (br_t (by decide) H)
/-! ===== bar and best, over the picture: the label k is cut (k = 3: none) ===== -/
def lc_K (k : Nat) (x z : Int32) : Prop := (k < 3 ∧ x = nI k ∧ z = 1) ∨ (k = 3 ∧ (x < 0 ∨ 2 < x) ∧ z = 0)
theorem lc_barK {k : Nat} {x z : Int32} (hk : lc_K k x z) (H : ∀ b2 : Nat → Int32, (∀ j, j < 3 → b2 j = if j = k then 1 else 0) → pp z (1, 0, a1, b2, a3, a4, a5, a6, a7, a8, a9, a10, a11, a12, a13, a14)) : wpX_bar pp (1, 0, a1, (fun _ => 0), a3, a4, a5, a6, a7, a8, a9, a10, a11, a12, a13, a14) 0 x 1 := by
  rcases hk with ⟨h, e, ez⟩ | ⟨h, e, ez⟩
  · subst e ez
    refine lc_bar h (H _ (fun j _ => ?_))
    by_cases g : j = k
    · rw [g, pk_us, if_pos rfl]
    · rw [pk_un g, if_neg g]
  · subst h ez
    exact lc_noBar e (H _ (fun j hj => by rw [if_neg (by omega)]))
theorem lc_Fy {k j n : Nat} {w b : Int32} (hw : w = nI n) (hb : b = if j = k then 1 else 0) : lc_F w b = lc_y k j n := by
  subst hw
  by_cases g : j = k
  · rw [if_pos g] at hb
    rw [hb, lc_F, lc_y, if_pos g, if_neg (by decide)]
  · rw [if_neg g] at hb
    rw [hb, lc_F, lc_y, if_neg g, if_pos rfl]
theorem lc_Gg {k j : Nat} {b : Int32} (hb : b = if j = k then 1 else 0) : lc_G b = lc_g k j := by
  by_cases g : j = k
  · rw [if_pos g] at hb
    rw [hb, lc_G, lc_g, if_pos g, if_neg (by decide)]
  · rw [if_neg g] at hb
    rw [hb, lc_G, lc_g, if_neg g, if_pos rfl]
theorem lc_Pp {k j n : Nat} {w b : Int32} (hw : w = nI n) (hb : b = if j = k then 1 else 0) : lc_P w b = lc_p k j n := by
  subst hw
  by_cases g : j = k
  · rw [if_pos g] at hb
    rw [hb, lc_P, lc_p, if_pos g, if_neg (by decide)]
  · rw [if_neg g] at hb
    rw [hb, lc_P, lc_p, if_neg g, if_pos rfl]
/-- the ready state's tables at one label -/
def lc_R (k j n : Nat) (a1 a5 a6 a7 a8 : Nat → Int32) (a9 : Nat → Int64) : Prop := a1 j = nI n ∧ a5 j = lc_y k j n ∧ a6 j = lc_y k j n ∧ a7 j = lc_g k j ∧ a8 j = lc_g k j ∧ a9 j = lc_p k j n
theorem lc_best {k u v w : Nat} (hk : k < 4) (hu : u < 10) (hv : v < 10) (hw : w < 10) (h0 : a1 0 = nI u) (h1 : a1 1 = nI v) (h2 : a1 2 = nI w) (hb : ∀ j, j < 3 → a2 j = if j = k then 1 else 0)
    (H : ∀ (b5 b6 b7 b8 : Nat → Int32) (b9 b10 : Nat → Int64) (b11 b12 b13 b14 : Nat → Int32), lc_R k 0 u a1 b5 b6 b7 b8 b9 → lc_R k 1 v a1 b5 b6 b7 b8 b9 → lc_R k 2 w a1 b5 b6 b7 b8 b9 →
      b14 0 = nI (lc_C (lc_y k 0 u) (lc_y k 1 v) (lc_Z (lc_x k 0 u) (lc_x k 1 v) (lc_x k 2 w))) →
      pp (lc_Z (lc_x k 0 u) (lc_x k 1 v) (lc_x k 2 w)) (1, 1, a1, a2, a3, a4, b5, b6, b7, b8, b9, b10, b11, b12, b13, b14)) : wpX_best pp (1, 0, a1, a2, a3, a4, a5, a6, a7, a8, a9, a10, a11, a12, a13, a14) := by
  have e0 := lc_Fy h0 (hb 0 (by omega))
  have e1 := lc_Fy h1 (hb 1 (by omega))
  have e2 := lc_Fy h2 (hb 2 (by omega))
  have t1 := lc_t1 k hk u hu v hv w hw
  have t2 := lc_t2 k hk u hu v hv w hw
  unfold wpX_best
  dsimp only
  refine lc_fill (by rw [e0, e1, e2, t1]; exact Int32.not_lt.mpr t2) (fun b5 b6 b7 b8 b9 b10 b11 b12 b13 b14 hj h14 => ?_)
  obtain ⟨p0, q0, r0, s0, t0⟩ := hj 0 (by omega)
  obtain ⟨p1, q1, r1, s1, t1'⟩ := hj 1 (by omega)
  obtain ⟨p2, q2, r2, s2, t2'⟩ := hj 2 (by omega)
  rw [e0, e1, e2, t1] at h14
  rw [e0] at p0 q0
  rw [e1] at p1 q1
  rw [e2] at p2 q2
  rw [lc_Gg (hb 0 (by omega))] at r0 s0
  rw [lc_Gg (hb 1 (by omega))] at r1 s1
  rw [lc_Gg (hb 2 (by omega))] at r2 s2
  rw [lc_Pp h0 (hb 0 (by omega))] at t0
  rw [lc_Pp h1 (hb 1 (by omega))] at t1'
  rw [lc_Pp h2 (hb 2 (by omega))] at t2'
  dsimp only
  refine lc_gs ?_
  rw [p0, p1, p2, t1]
  exact br_t t2 (H b5 b6 b7 b8 b9 b10 b11 b12 b13 b14 ⟨h0, p0, q0, r0, s0, t0⟩ ⟨h1, p1, q1, r1, s1, t1'⟩ ⟨h2, p2, q2, r2, s2, t2'⟩ h14)
end
end
section
/-! ===== the law behind best ===== -/
def lc_V (z : Int32) : Int32 := if 0 ≤ z then z else -2
def lc_W (x p q s : Int32) : Int32 := if x = 0 then p else if x = 1 then q else s
section
variable {q : Int32 → St0 → Prop} {mc ms kc ks : Nat} {x3 x4 x5 x6 x7 x8 x9 x10 x11 x12 z0 z1 z2 : Int32} {y1 y2 : Int64} {a1 a2 a3 a4 a5 a6 a7 a8 : Nat → Int32} {a9 a10 : Nat → Int64} {a11 a12 a13 a14 : Nat → Int32}
theorem lc_406 (hr : y2 = y1 - z0.toInt64) (hA : a7 0 + a7 1 + a7 2 = if x8 = 0 then 3 else 2) (H : q 1 ()) : wL_lawOf_406 q mc ms x8 z0 y1 y2 kc ks 1 1 a1 a2 a3 a4 a5 a6 a7 a8 a9 a10 a11 a12 a13 a14 := by
  unfold wL_lawOf_406
  refine br_t hr (lc_couple (br_t rfl (lc_allowed (br_c (fun e => ?_) (fun e => ?_)))))
  · rw [if_pos e] at hA
    exact br_t hA H
  · rw [if_neg e] at hA
    exact br_t hA H
theorem lc_355 (hz : z1 = z0) (hT : a9 0 + a9 1 + a9 2 = x5.toInt64 + x6.toInt64 + x7.toInt64 - (if x3 = 0 then x5 else if x3 = 1 then x6 else if x3 = 2 then x7 else 0).toInt64) (hA : a7 0 + a7 1 + a7 2 = if x8 = 0 then 3 else 2) (H : q 1 ()) : wL_lawOf_355 q mc ms x3 x5 x6 x7 x8 z0 z1 kc ks 1 1 a1 a2 a3 a4 a5 a6 a7 a8 a9 a10 a11 a12 a13 a14 := by
  unfold wL_lawOf_355
  refine br_t hz (lc_total (br_c (fun e => ?_) (fun e => br_c (fun e1 => ?_) (fun e1 => br_c (fun e2 => ?_) (fun e2 => ?_)))))
  · rw [if_pos e] at hT
    exact lc_406 hT hA H
  · rw [if_neg e, if_pos e1] at hT
    exact lc_406 hT hA H
  · rw [if_neg e, if_neg e1, if_pos e2] at hT
    exact lc_406 hT hA H
  · rw [if_neg e, if_neg e1, if_neg e2] at hT
    exact lc_406 hT hA H
theorem lc_ge3 {x : Int32} (h : nI 3 ≤ x) : ¬ x < 0 ∧ 2 < x := by
  have h' : nI 3 ≤ x := h
  rw [Int32.le_iff_toInt_le, nI_toInt (by omega)] at h'
  constructor
  · rw [Int32.lt_iff_toInt_lt]
    rw [show (0 : Int32).toInt = 0 from by decide]
    omega
  · rw [Int32.lt_iff_toInt_lt]
    rw [show (2 : Int32).toInt = 2 from by decide]
    omega
theorem lc_318 (hB : ∀ j, j < 3 → x4 = nI j → a6 j = a5 j ∧ lc_B (a5 j) (a1 j) = lc_V z0) (hT : a9 0 + a9 1 + a9 2 = x5.toInt64 + x6.toInt64 + x7.toInt64 - (if x3 = 0 then x5 else if x3 = 1 then x6 else if x3 = 2 then x7 else 0).toInt64) (hA : a7 0 + a7 1 + a7 2 = if x8 = 0 then 3 else 2) (H : q 1 ()) : wL_lawOf_318 q mc ms x3 x4 x5 x6 x7 x8 z0 kc ks 1 1 a1 a2 a3 a4 a5 a6 a7 a8 a9 a10 a11 a12 a13 a14 := by
  unfold wL_lawOf_318
  rcases pk_ix x4 (n := 3) (by omega) with h | h | ⟨j, hj, e⟩
  · refine lc_noThrough (Or.inl h) (br_t h ?_)
    unfold wL_lawOf_339
    exact lc_355 rfl hT hA H
  · obtain ⟨g1, g2⟩ := lc_ge3 h
    refine lc_noThrough (Or.inr g2) (br_f g1 (br_f (Int32.not_le.mpr g2) ?_))
    unfold wL_lawOf_339
    exact lc_355 rfl hT hA H
  · obtain ⟨h6, hb⟩ := hB j hj e
    subst e
    refine lc_through hj h6 hb (pk_lt j 0 (fun z => absurd z (by omega)) (fun _ => pk_le j 2 (fun _ => br_c (fun g => ?_) (fun g => ?_)) (fun z => absurd z (by omega))))
    · rw [lc_V, if_pos g]
      exact lc_355 rfl hT hA H
    · rw [lc_V, if_neg g]
      exact lc_355 rfl hT hA H
theorem lc_289 (hr : z2 = z1 + z0) (hB : ∀ j, j < 3 → x4 = nI j → a6 j = a5 j ∧ lc_B (a5 j) (a1 j) = lc_V (lc_W x4 x9 x10 x11)) (hT : a9 0 + a9 1 + a9 2 = x5.toInt64 + x6.toInt64 + x7.toInt64 - (if x3 = 0 then x5 else if x3 = 1 then x6 else if x3 = 2 then x7 else 0).toInt64) (hA : a7 0 + a7 1 + a7 2 = if x8 = 0 then 3 else 2) (H : q 1 ()) : wL_lawOf_289 q mc ms x3 x4 x5 x6 x7 x8 x9 x10 x11 z0 z1 z2 kc ks 1 1 a1 a2 a3 a4 a5 a6 a7 a8 a9 a10 a11 a12 a13 a14 := by
  unfold wL_lawOf_289
  refine br_t hr (br_c (fun e => ?_) (fun e => br_c (fun e1 => ?_) (fun e1 => ?_)))
  · rw [show lc_W x4 x9 x10 x11 = x9 from if_pos e] at hB
    exact lc_318 hB hT hA H
  · rw [show lc_W x4 x9 x10 x11 = x10 from (if_neg e).trans (if_pos e1)] at hB
    exact lc_318 hB hT hA H
  · rw [show lc_W x4 x9 x10 x11 = x11 from (if_neg e).trans (if_neg e1)] at hB
    exact lc_318 hB hT hA H
theorem lc_264 (hr : z1 = z0 + (if x10 = x12 then 1 else 0) + (if x11 = x12 then 1 else 0)) (hB : ∀ j, j < 3 → x4 = nI j → a6 j = a5 j ∧ lc_B (a5 j) (a1 j) = lc_V (lc_W x4 x9 x10 x11)) (hT : a9 0 + a9 1 + a9 2 = x5.toInt64 + x6.toInt64 + x7.toInt64 - (if x3 = 0 then x5 else if x3 = 1 then x6 else if x3 = 2 then x7 else 0).toInt64) (hA : a7 0 + a7 1 + a7 2 = if x8 = 0 then 3 else 2) (H : q 1 ()) : wL_lawOf_264 q mc ms x3 x4 x5 x6 x7 x8 x9 x10 x11 x12 z0 z1 kc ks 1 1 a1 a2 a3 a4 a5 a6 a7 a8 a9 a10 a11 a12 a13 a14 := by
  unfold wL_lawOf_264
  refine br_c (fun e => ?_) (fun e => ?_)
  · rw [if_pos e] at hr
    unfold wL_lawOf_276
    refine br_c (fun g => ?_) (fun g => ?_)
    · rw [if_pos g] at hr
      exact lc_289 hr hB hT hA H
    · rw [if_neg g] at hr
      exact lc_289 hr hB hT hA H
  · rw [if_neg e] at hr
    unfold wL_lawOf_276
    refine br_c (fun g => ?_) (fun g => ?_)
    · rw [if_pos g] at hr
      exact lc_289 hr hB hT hA H
    · rw [if_neg g] at hr
      exact lc_289 hr hB hT hA H
theorem lc_242 (hz : z1 = z0) (hs : lc_S (a5 0) (a5 1) (a5 2) = x12) (h0 : 0 ≤ x12) (hN : lc_N x12 (a5 0) (a5 1) (a5 2) (a8 0) (a8 1) (a8 2) = (if x9 = x12 then 1 else 0) + (if x10 = x12 then 1 else 0) + (if x11 = x12 then 1 else 0)) (hB : ∀ j, j < 3 → x4 = nI j → a6 j = a5 j ∧ lc_B (a5 j) (a1 j) = lc_V (lc_W x4 x9 x10 x11)) (hT : a9 0 + a9 1 + a9 2 = x5.toInt64 + x6.toInt64 + x7.toInt64 - (if x3 = 0 then x5 else if x3 = 1 then x6 else if x3 = 2 then x7 else 0).toInt64) (hA : a7 0 + a7 1 + a7 2 = if x8 = 0 then 3 else 2) (H : q 1 ()) : wL_lawOf_242 q mc ms x3 x4 x5 x6 x7 x8 x9 x10 x11 x12 z0 z1 kc ks 1 1 a1 a2 a3 a4 a5 a6 a7 a8 a9 a10 a11 a12 a13 a14 := by
  unfold wL_lawOf_242
  refine br_t hz (lc_bestCount (by rw [hs]; exact h0) (br_c (fun e => ?_) (fun e => ?_)))
  · rw [hs]
    rw [if_pos e] at hN
    exact lc_264 hN hB hT hA H
  · rw [hs]
    rw [if_neg e] at hN
    exact lc_264 hN hB hT hA H
end
end
section
/-! ===== the law's head ===== -/
section
variable {q : Int32 → St0 → Prop} {mc ms kc ks : Nat} {x3 x4 x5 x6 x7 x8 x9 x10 x11 z0 : Int32}
theorem lc_e3 {k u v w : Nat} (hk : lc_K k x3 x8) : (if k = 0 then nI u else if k = 1 then nI v else if k = 2 then nI w else 0) = (if x3 = 0 then nI u else if x3 = 1 then nI v else if x3 = 2 then nI w else 0) := by
  rcases hk with ⟨h, e, _⟩ | ⟨h, e, _⟩
  · subst e
    match k, h with
    | 0, _ => rfl
    | 1, _ => rfl
    | 2, _ => rfl
  · subst h
    rw [if_neg (by decide), if_neg (by decide), if_neg (by decide)]
    have n0 : ¬ x3 = 0 := fun g => by subst g; revert e; decide
    have n1 : ¬ x3 = 1 := fun g => by subst g; revert e; decide
    have n2 : ¬ x3 = 2 := fun g => by subst g; revert e; decide
    rw [if_neg n0, if_neg n1, if_neg n2]
theorem lc_e8 {k : Nat} (hk : lc_K k x3 x8) : lc_g k 0 + lc_g k 1 + lc_g k 2 = if x8 = 0 then 3 else 2 := by
  rcases hk with ⟨h, _, e⟩ | ⟨h, _, e⟩
  · subst e
    match k, h with
    | 0, _ => decide
    | 1, _ => decide
    | 2, _ => decide
  · subst h e
    decide
theorem lc_132 {k u v w : Nat} (hk : lc_K k x3 x8) (hu : u < 10) (hv : v < 10) (hw : w < 10) (H : q 1 ()) : wL_lawOf_132 q 15 240 x3 x4 (nI u) (nI v) (nI w) x8 (lc_x k 0 u) (lc_x k 1 v) (lc_x k 2 w) (lc_Z (lc_x k 0 u) (lc_x k 1 v) (lc_x k 2 w)) 0 0 := by
  have k4 : k < 4 := by rcases hk with h | h <;> omega
  have t1 := lc_t1 k k4 u hu v hv w hw
  have t2 := lc_t2 k k4 u hu v hv w hw
  have t3 := lc_t3 k k4 u hu v hv w hw
  have t4 := lc_t4 k k4 u hu v hv w hw
  have t6 := lc_t6 k k4 u hu v hv w hw
  have e3 := lc_e3 (u := u) (v := v) (w := w) hk
  have e8 := lc_e8 hk
  rw [e3] at t6
  refine ⟨by decide, by decide, 14, 224, by decide, by decide, lc_init (fun b1 b3 => lc_weigh (a := 0) (by omega) hu (br_f (by decide) (lc_weigh (a := 1) (by omega) hv (br_f (by decide) (lc_weigh (a := 2) (by omega) hw (br_f (by decide) (lc_barK hk (fun b2 hb => br_t rfl (lc_best k4 hu hv hw rfl rfl rfl hb (fun b5 b6 b7 b8 b9 b10 b11 b12 b13 b14 R0 R1 R2 h14 => br_t rfl ?_))))))))))⟩
  obtain ⟨A0, B0, C0, D0, E0, F0'⟩ := R0
  obtain ⟨A1, B1, C1, D1, E1, F1'⟩ := R1
  obtain ⟨A2, B2, C2, D2, E2, F2'⟩ := R2
  have hs : lc_S (b5 0) (b5 1) (b5 2) = lc_Z (lc_x k 0 u) (lc_x k 1 v) (lc_x k 2 w) := by rw [B0, B1, B2]; exact t1
  have hN : lc_N (lc_Z (lc_x k 0 u) (lc_x k 1 v) (lc_x k 2 w)) (b5 0) (b5 1) (b5 2) (b8 0) (b8 1) (b8 2) = (if lc_x k 0 u = lc_Z (lc_x k 0 u) (lc_x k 1 v) (lc_x k 2 w) then 1 else 0) + (if lc_x k 1 v = lc_Z (lc_x k 0 u) (lc_x k 1 v) (lc_x k 2 w) then 1 else 0) + (if lc_x k 2 w = lc_Z (lc_x k 0 u) (lc_x k 1 v) (lc_x k 2 w) then 1 else 0) := by rw [B0, B1, B2, E0, E1, E2]; exact t4
  have hT : b9 0 + b9 1 + b9 2 = (nI u).toInt64 + (nI v).toInt64 + (nI w).toInt64 - (if x3 = 0 then nI u else if x3 = 1 then nI v else if x3 = 2 then nI w else 0).toInt64 := by rw [F0', F1', F2']; exact t6
  have hA : b7 0 + b7 1 + b7 2 = if x8 = 0 then 3 else 2 := by rw [D0, D1, D2]; exact e8
  have hB : ∀ j, j < 3 → x4 = nI j → b6 j = b5 j ∧ lc_B (b5 j) (upd (upd (upd b1 0 (nI u)) 1 (nI v)) 2 (nI w) j) = lc_V (lc_W x4 (lc_x k 0 u) (lc_x k 1 v) (lc_x k 2 w)) := by
    intro j hj e
    subst e
    match j, hj with
    | 0, _ => exact ⟨by rw [B0, C0], by rw [B0]; exact lc_t5 k k4 0 (by omega) u hu⟩
    | 1, _ => exact ⟨by rw [B1, C1], by rw [B1]; exact lc_t5 k k4 1 (by omega) v hv⟩
    | 2, _ => exact ⟨by rw [B2, C2], by rw [B2]; exact lc_t5 k k4 2 (by omega) w hw⟩
  refine lc_label (by rw [hs]; exact t2) (br_c (fun e => ?_) (fun e => br_c (fun e1 => ?_) (fun e1 => ?_)))
  · rw [if_pos e] at t3
    exact lc_242 (h14.trans t3) hs t2 hN hB hT hA H
  · rw [if_neg e, if_pos e1] at t3
    exact lc_242 (h14.trans t3) hs t2 hN hB hT hA H
  · rw [if_neg e, if_neg e1] at t3
    exact lc_242 (h14.trans t3) hs t2 hN hB hT hA H
theorem lc_97 (H : wL_lawOf_132 q mc ms x3 x4 x5 x6 x7 x8 x9 x10 x11 (lc_Z x9 x10 x11) kc ks) : wL_lawOf_97 q mc ms x3 x4 x5 x6 x7 x8 x9 x10 x11 kc ks := by
  unfold wL_lawOf_97
  refine br_c (fun e => ?_) (fun e => br_c (fun g => ?_) (fun g => ?_))
  · unfold wL_lawOf_118
    refine br_c (fun h => ?_) (fun h => ?_)
    · rw [lc_Z, if_pos e, if_pos h] at H
      exact H
    · rw [lc_Z, if_pos e, if_neg h] at H
      exact H
  · unfold wL_lawOf_118
    refine br_c (fun h => ?_) (fun h => ?_)
    · rw [lc_Z, if_neg e, if_pos g, if_pos h] at H
      exact H
    · rw [lc_Z, if_neg e, if_pos g, if_neg h] at H
      exact H
  · rw [lc_Z, if_neg e, if_neg g] at H
    exact H
theorem lc_79 (H : wL_lawOf_97 q mc ms x3 x4 x5 x6 x7 x8 x9 z0 (if x8 = 0 then x7 else if x3 = 2 then -1 else x7) kc ks) : wL_lawOf_79 q mc ms x3 x4 x5 x6 x7 x8 x9 z0 kc ks := by
  unfold wL_lawOf_79 wL_lawOf_95
  refine br_c (fun e => ?_) (fun e => br_c (fun g => ?_) (fun g => ?_))
  · rw [if_pos e] at H
    exact H
  · rw [if_neg e, if_pos g] at H
    exact H
  · rw [if_neg e, if_neg g] at H
    exact H
theorem lc_61 (H : wL_lawOf_79 q mc ms x3 x4 x5 x6 x7 x8 z0 (if x8 = 0 then x6 else if x3 = 1 then -1 else x6) kc ks) : wL_lawOf_61 q mc ms x3 x4 x5 x6 x7 x8 z0 kc ks := by
  unfold wL_lawOf_61 wL_lawOf_77
  refine br_c (fun e => ?_) (fun e => br_c (fun g => ?_) (fun g => ?_))
  · rw [if_pos e] at H
    exact H
  · rw [if_neg e, if_pos g] at H
    exact H
  · rw [if_neg e, if_neg g] at H
    exact H
theorem lc_44 (H : wL_lawOf_61 q mc ms x3 x4 x5 x6 x7 z0 (if z0 = 0 then x5 else if x3 = 0 then -1 else x5) kc ks) : wL_lawOf_44 q mc ms x3 x4 x5 x6 x7 z0 kc ks := by
  unfold wL_lawOf_44 wL_lawOf_59
  refine br_c (fun e => ?_) (fun e => br_c (fun g => ?_) (fun g => ?_))
  · rw [if_pos e] at H
    exact H
  · rw [if_neg e, if_pos g] at H
    exact H
  · rw [if_neg e, if_neg g] at H
    exact H
theorem lc_xK {k n : Nat} (hk : lc_K k x3 x8) : (if x8 = 0 then nI n else if x3 = 0 then -1 else nI n) = lc_x k 0 n ∧ (if x8 = 0 then nI n else if x3 = 1 then -1 else nI n) = lc_x k 1 n ∧ (if x8 = 0 then nI n else if x3 = 2 then -1 else nI n) = lc_x k 2 n := by
  rcases hk with ⟨h, e, e'⟩ | ⟨h, _, e'⟩
  · subst e e'
    match k, h with
    | 0, _ => exact ⟨rfl, rfl, rfl⟩
    | 1, _ => exact ⟨rfl, rfl, rfl⟩
    | 2, _ => exact ⟨rfl, rfl, rfl⟩
  · subst h e'
    exact ⟨rfl, rfl, rfl⟩
theorem lc_44K {k u v w : Nat} (hk : lc_K k x3 x8) (hu : u < 10) (hv : v < 10) (hw : w < 10) (H : q 1 ()) : wL_lawOf_44 q 15 240 x3 x4 (nI u) (nI v) (nI w) x8 0 0 := by
  refine lc_44 (lc_61 (lc_79 (lc_97 ?_)))
  rw [(lc_xK (n := u) hk).1, (lc_xK (n := v) hk).2.1, (lc_xK (n := w) hk).2.2]
  exact lc_132 hk hu hv hw H
theorem lc_mod (x : Int32) : ∃ u : Nat, u < 10 ∧ (x &&& 255) - (x &&& 255) / 10 * 10 = nI u := by
  obtain ⟨j, hj, e⟩ := pk_andE x (m := 255) 8 (by decide)
  exact ⟨j % 10, Nat.mod_lt _ (by omega), by rw [e]; exact pk_rem (d := 10) (by omega) (by omega) (by omega)⟩
theorem lc_lawOf {p0 p1 p2 p3 p4 : Int32} (H : q 1 ()) : wpL_lawOf q 15 240 () p0 p1 p2 p3 p4 := by
  obtain ⟨u, hu, eu⟩ := lc_mod p0
  obtain ⟨v, hv, ev⟩ := lc_mod p1
  obtain ⟨w, hw, ew⟩ := lc_mod p2
  refine ⟨by decide, nm_r eu ⟨by decide, nm_r ev ⟨by decide, nm_r ew (br_c (fun h => ?_) (fun h => br_c (fun g => ?_) (fun g => ?_)))⟩⟩⟩
  · unfold wL_lawOf_43
    exact lc_44K (k := 3) (Or.inr ⟨rfl, Or.inl h, rfl⟩) hu hv hw H
  · unfold wL_lawOf_43
    exact lc_44K (k := 3) (Or.inr ⟨rfl, Or.inr g, rfl⟩) hu hv hw H
  · obtain ⟨j, hj, e⟩ := nI_of2 (x := p3) (M := 2) (n := 2) (by decide) h (Int32.not_lt.mp g)
    exact lc_44K (k := j) (Or.inl ⟨by omega, e, rfl⟩) hu hv hw H
end
theorem lc_cell {post : Int32 → Prop} {L : Nat} {xs : Nat → Int32} (c : Nat) (hc : c < 5) (hL : L ≤ 5) (H : ∀ x, post x) : wpL_cellAt post L xs () (nI c) :=
  pk_le L c (fun _ => H _) (fun z => ⟨pk_in c L z, H _⟩)
theorem i_vc (xs : Nat → Int32) (L : Nat) (hL : L ≤ 5) : wpL_law (fun r => r = 1) L xs := by
  unfold wpL_law
  exact lc_cell 0 (by omega) hL (fun _ => lc_cell 1 (by omega) hL (fun _ => lc_cell 2 (by omega) hL (fun _ => lc_cell 3 (by omega) hL (fun _ => lc_cell 4 (by omega) hL (fun _ => ⟨15, 240, by decide, by decide, lc_lawOf rfl⟩)))))
end
