section
/-- the pair table's upper half, row i: what 'weight' adds at (i, j) -/
def dn_row (a : Nat → Int32) (i j : Nat) : Int32 := if i < j then a (i * 10 + j) else 0
/-- all pairs of the upper half -/
def dn_prs (a : Nat → Int32) (N : Nat) : Int32 := bx_sum (fun i => bx_sum (dn_row a i) N) N
/-- what weight(-1) answers -/
def dn_tot (a e : Nat → Int32) (N : Nat) : Int32 := bx_sum (fun i => e i + bx_sum (dn_row a i) N) N
theorem dn_bit : ∀ j, j < 32 → ((-1 : Int32) >>> (nI j &&& 31)) &&& 1 = 1 := by decide +kernel
theorem dn_ix (i j : Nat) : nI i * 10 + nI j = nI (i * 10 + j) := by
  have h : nI i * nI 10 + nI j = nI (i * 10 + j) := by rw [pk_mul, nI_add]
  exact h
theorem dn_z {f : Nat → Int32} : ∀ n, (∀ j, j < n → f j = 0) → bx_sum f n = 0
  | 0, _ => rfl
  | n + 1, h => by
    show bx_sum f n + f n = 0
    rw [dn_z n (fun j hj => h j (by omega)), h n (by omega)]
    exact Int32.add_zero 0
theorem dn_one {f : Nat → Int32} {k : Nat} : ∀ n, k < n → (∀ j, j < n → j ≠ k → f j = 0) → bx_sum f n = f k
  | 0, hk, _ => absurd hk (by omega)
  | n + 1, hk, h => by
    show bx_sum f n + f n = f k
    by_cases e : k = n
    · subst e
      rw [dn_z k (fun j hj => h j (by omega) (by omega))]
      exact Int32.zero_add _
    · rw [dn_one n (by omega) (fun j hj hn => h j (by omega) hn), h n (by omega) (fun z => e z.symm)]
      exact Int32.add_zero _
theorem dn_add (f g : Nat → Int32) : ∀ n, bx_sum (fun i => f i + g i) n = bx_sum f n + bx_sum g n
  | 0 => (Int32.add_zero 0).symm
  | n + 1 => by
    show bx_sum (fun i => f i + g i) n + (f n + g n) = (bx_sum f n + f n) + (bx_sum g n + g n)
    rw [dn_add f g n]
    grind
theorem dn_split (a e : Nat → Int32) (N : Nat) : dn_tot a e N = bx_sum e N + dn_prs a N := dn_add e (fun i => bx_sum (dn_row a i) N) N
theorem dn_prs0 (N : Nat) : dn_prs (fun _ => 0) N = 0 := by
  refine dn_z N (fun i _ => dn_z N (fun j _ => ?_))
  unfold dn_row
  split <;> rfl
/-- one pair p < q alone in the upper half -/
theorem dn_prs1 {a : Nat → Int32} {N p q : Nat} {w : Int32} (hpq : p < q) (hq : q < N) (hw : a (p * 10 + q) = w) (h0 : ∀ i j, i < j → j < N → ¬ (i = p ∧ j = q) → a (i * 10 + j) = 0) : dn_prs a N = w := by
  have e : dn_prs a N = bx_sum (dn_row a p) N := by
    refine dn_one (f := fun i => bx_sum (dn_row a i) N) N (by omega) (fun i hi hn => dn_z N (fun j hj => ?_))
    unfold dn_row
    split
    · next z => exact h0 i j z hj (fun t => hn t.1)
    · rfl
  rw [e]
  have e2 : bx_sum (dn_row a p) N = dn_row a p q := by
    refine dn_one N hq (fun j hj hn => ?_)
    unfold dn_row
    split
    · next z => exact h0 p j z hj (fun t => hn t.2)
    · rfl
  rw [e2]
  unfold dn_row
  rw [if_pos hpq]
  exact hw
section
variable {f1 f2 f3 f4 : Int32} {a1 a2 a3 a4 a5 a6 a7 : Nat → Int32} {N : Nat}
theorem dn_37 {post : Int32 → Prop} {J4 : Int32 → Int32 → Prop} {i : Nat} {s0 : Int32} (hN : N ≤ 10) (hi : i < N) (H : J4 (s0 + bx_sum (dn_row a1 i) N) (nI (i + 1))) :
    ∃ n, wX_weight_37 post J4 (-1) (nI i) (nI N) f1 f2 f3 f4 a1 a2 a3 a4 a5 a6 a7 n s0 (nI (i + 1)) :=
  pk_loop (fun n j s => wX_weight_37 post J4 (-1) (nI i) (nI N) f1 f2 f3 f4 a1 a2 a3 a4 a5 a6 a7 n s (nI j))
    (fun j s => i < j ∧ s = s0 + bx_sum (dn_row a1 i) j) N (i + 1) s0 (by omega)
    ⟨by omega, by rw [dn_z (f := dn_row a1 i) (i + 1) (fun j hj => if_neg (by omega))]; exact (Int32.add_zero _).symm⟩
    (fun n s h => pk_le N N (fun _ => nm_r (nI_1 i) (by rw [h.2]; exact H)) (fun z => absurd z (by omega)))
    (fun n j s hj h hw => pk_le N j (fun z => absurd z (by omega)) (fun _ => br_t (dn_bit j (by omega))
      ⟨pk_in (i * 10 + j) 100 (by omega) (dn_ix i j), nm_r (e' := s + a1 (i * 10 + j)) (by rw [dn_ix, nI_clamp (by omega)]) (nm_r (nI_1 j) (hw _ ⟨by omega, by
        show s + a1 (i * 10 + j) = s0 + (bx_sum (dn_row a1 i) j + dn_row a1 i j)
        unfold dn_row
        rw [if_pos h.1, h.2]
        exact Int32.add_assoc _ _ _⟩))⟩))
theorem dn_4 {post : Int32 → Prop} (hN : N ≤ 10) (H : post (dn_tot a1 a2 N)) : ∃ n, wX_weight_4 post (-1) (nI N) f1 f2 f3 f4 a1 a2 a3 a4 a5 a6 a7 n 0 0 :=
  pk_loop (fun n i s => wX_weight_4 post (-1) (nI N) f1 f2 f3 f4 a1 a2 a3 a4 a5 a6 a7 n s (nI i))
    (fun i s => s = bx_sum (fun i => a2 i + bx_sum (dn_row a1 i) N) i) N 0 0 (by omega) rfl
    (fun n s h => pk_le N N (fun _ => by rw [h]; exact H) (fun z => absurd z (by omega)))
    (fun n i s hi h hw => pk_le N i (fun z => absurd z (by omega)) (fun _ => br_f (by rw [dn_bit i (by omega)]; decide)
      ⟨pk_in i 10 (by omega), nm_r (e' := s + a2 i) (by rw [nI_clamp (by omega)]) (nm_r (nI_1 i) (dn_37 hN hi (hw _ (by
        show s + a2 i + bx_sum (dn_row a1 i) N = bx_sum (fun i => a2 i + bx_sum (dn_row a1 i) N) i + (a2 i + bx_sum (dn_row a1 i) N)
        rw [h]
        exact Int32.add_assoc _ _ _))))⟩))
theorem dn_weight {post : Int32 → Prop} (hN : N ≤ 10) (H : post (dn_tot a1 a2 N)) : wpX_weight post (nI N, f1, f2, f3, f4, a1, a2, a3, a4, a5, a6, a7) (-1) := by
  unfold wpX_weight
  exact dn_4 hN H
end
end
section
/-- no vertex of N -/
def dn_bad (N : Nat) (x : Int32) : Prop := x < 0 ∨ nI N ≤ x
theorem dn_hv {c d A B : Prop} (h : c ∨ ¬ d) (H : A) : (c → A) ∧ (¬ c → ((d → B) ∧ (¬ d → A))) :=
  ⟨fun _ => H, fun hc => ⟨fun hd => absurd h (fun t => t.elim hc (fun g => g hd)), fun _ => H⟩⟩
section
variable {N U V : Nat} {f1 f2 f3 f4 : Int32} {a1 a2 a3 a4 a5 a6 a7 : Nat → Int32} {x y z : Int32}
theorem dn_badT {post : Int32 → Prop} (h : dn_bad N x) (H : post 1) : wpX_bad post (nI N, f1, f2, f3, f4, a1, a2, a3, a4, a5, a6, a7) x := by
  rcases h with h | h
  · exact br_t h H
  · exact br_c (fun _ => H) (fun _ => br_f (Int32.not_lt.mpr h) H)
theorem dn_badF {post : Int32 → Prop} (hN : N ≤ 10) (h : U < N) (H : post 0) : wpX_bad post (nI N, f1, f2, f3, f4, a1, a2, a3, a4, a5, a6, a7) (nI U) :=
  br_f (nI_pos (by omega)) (br_t (nI_lt h (by omega)) H)
theorem dn_edge1 {post : Int32 → St2 → Prop} (h : dn_bad N x) (H : post (-1) (nI N, f1, f2, f3, f4, a1, a2, a3, a4, a5, a6, a7)) : wpX_edge post (nI N, f1, f2, f3, f4, a1, a2, a3, a4, a5, a6, a7) x y z := by
  unfold wpX_edge
  exact dn_badT h (br_f (by decide) H)
theorem dn_edge2 {post : Int32 → St2 → Prop} (hN : N ≤ 10) (hU : U < N) (h : dn_bad N y) (H : post (-1) (nI N, f1, f2, f3, f4, a1, a2, a3, a4, a5, a6, a7)) : wpX_edge post (nI N, f1, f2, f3, f4, a1, a2, a3, a4, a5, a6, a7) (nI U) y z := by
  unfold wpX_edge
  exact dn_badF hN hU (br_t rfl (dn_badT h (br_f (by decide) H)))
theorem dn_edge3 {post : Int32 → St2 → Prop} (hN : N ≤ 10) (hU : U < N) (H : post (-1) (nI N, f1, f2, f3, f4, a1, a2, a3, a4, a5, a6, a7)) : wpX_edge post (nI N, f1, f2, f3, f4, a1, a2, a3, a4, a5, a6, a7) (nI U) (nI U) z := by
  unfold wpX_edge
  exact dn_badF hN hU (br_t rfl (dn_badF hN hU (br_t rfl (br_t rfl H))))
theorem dn_ne (hN : N ≤ 10) (hU : U < N) (hV : V < N) (h : U ≠ V) : ¬ nI U = nI V := fun e => h ((nI_eq (by omega) (by omega)).mp e)
theorem dn_edge4 {post : Int32 → St2 → Prop} (hN : N ≤ 10) (hU : U < N) (hV : V < N) (hUV : U ≠ V) (h : z < 0 ∨ ¬ z ≤ 20) (H : post (-2) (nI N, f1, f2, f3, f4, a1, a2, a3, a4, a5, a6, a7)) : wpX_edge post (nI N, f1, f2, f3, f4, a1, a2, a3, a4, a5, a6, a7) (nI U) (nI V) z := by
  unfold wpX_edge
  exact dn_badF hN hU (br_t rfl (dn_badF hN hV (br_t rfl (br_f (dn_ne hN hU hV hUV) (dn_hv h H)))))
theorem dn_edge5 {post : Int32 → St2 → Prop} (hN : N ≤ 10) (hU : U < N) (hV : V < N) (hUV : U ≠ V) (h1 : ¬ z < 0) (h2 : z ≤ 20) (H : post (a1 (U * 10 + V)) (nI N, f1, f2, f3, f4, upd (upd a1 (U * 10 + V) z) (V * 10 + U) z, a2, a3, a4, a5, a6, a7)) : wpX_edge post (nI N, f1, f2, f3, f4, a1, a2, a3, a4, a5, a6, a7) (nI U) (nI V) z := by
  unfold wpX_edge
  refine dn_badF hN hU (br_t rfl (dn_badF hN hV (br_t rfl (br_f (dn_ne hN hU hV hUV) (br_f h1 (br_t h2 ?_))))))
  refine ⟨pk_in (U * 10 + V) 100 (by omega) (dn_ix U V), nm_r (e' := a1 (U * 10 + V)) (by rw [dn_ix, nI_clamp (by omega)]) ⟨pk_in (U * 10 + V) 100 (by omega) (dn_ix U V), ?_⟩⟩
  refine nm_r (e' := upd a1 (U * 10 + V) z) (by rw [dn_ix, nI_clamp (by omega)]) ⟨pk_in (V * 10 + U) 100 (by omega) (dn_ix V U), ?_⟩
  exact nm_r (e' := upd (upd a1 (U * 10 + V) z) (V * 10 + U) z) (by rw [dn_ix, nI_clamp (by omega)]) H
theorem dn_bonus1 {post : Int32 → St2 → Prop} (h : dn_bad N x) (H : post (-1) (nI N, f1, f2, f3, f4, a1, a2, a3, a4, a5, a6, a7)) : wpX_bonus post (nI N, f1, f2, f3, f4, a1, a2, a3, a4, a5, a6, a7) x y := by
  unfold wpX_bonus
  exact dn_badT h (br_f (by decide) H)
theorem dn_bonus2 {post : Int32 → St2 → Prop} (hN : N ≤ 10) (hU : U < N) (h : y < 0 ∨ ¬ y ≤ 20) (H : post (-2) (nI N, f1, f2, f3, f4, a1, a2, a3, a4, a5, a6, a7)) : wpX_bonus post (nI N, f1, f2, f3, f4, a1, a2, a3, a4, a5, a6, a7) (nI U) y := by
  unfold wpX_bonus
  exact dn_badF hN hU (br_t rfl (dn_hv h H))
theorem dn_bonus3 {post : Int32 → St2 → Prop} (hN : N ≤ 10) (hU : U < N) (h1 : ¬ y < 0) (h2 : y ≤ 20) (H : post (a2 U) (nI N, f1, f2, f3, f4, a1, upd a2 U y, a3, a4, a5, a6, a7)) : wpX_bonus post (nI N, f1, f2, f3, f4, a1, a2, a3, a4, a5, a6, a7) (nI U) y := by
  unfold wpX_bonus
  refine dn_badF hN hU (br_t rfl (br_f h1 (br_t h2 ⟨pk_in U 10 (by omega), nm_r (e' := a2 U) (by rw [nI_clamp (by omega)]) ⟨pk_in U 10 (by omega), ?_⟩⟩)))
  exact nm_r (e' := upd a2 U y) (by rw [nI_clamp (by omega)]) H
theorem dn_mode1 {post : Int32 → St2 → Prop} (h : dn_bad N x) (H : post (-1) (nI N, f1, f2, f3, f4, a1, a2, a3, a4, a5, a6, a7)) : wpX_mode post (nI N, f1, f2, f3, f4, a1, a2, a3, a4, a5, a6, a7) x y := by
  unfold wpX_mode
  exact dn_badT h (br_f (by decide) H)
theorem dn_mode2 {post : Int32 → St2 → Prop} (hN : N ≤ 10) (hU : U < N) (h : y < 0 ∨ ¬ y ≤ 2) (H : post (-3) (nI N, f1, f2, f3, f4, a1, a2, a3, a4, a5, a6, a7)) : wpX_mode post (nI N, f1, f2, f3, f4, a1, a2, a3, a4, a5, a6, a7) (nI U) y := by
  unfold wpX_mode
  exact dn_badF hN hU (br_t rfl (dn_hv h H))
theorem dn_mode3 {post : Int32 → St2 → Prop} (hN : N ≤ 10) (hU : U < N) (h1 : ¬ y < 0) (h2 : y ≤ 2) (H : post (a3 U) (nI N, f1, f2, f3, f4, a1, a2, upd a3 U y, a4, a5, a6, a7)) : wpX_mode post (nI N, f1, f2, f3, f4, a1, a2, a3, a4, a5, a6, a7) (nI U) y := by
  unfold wpX_mode
  refine dn_badF hN hU (br_t rfl (br_f h1 (br_t h2 ⟨pk_in U 10 (by omega), nm_r (e' := a3 U) (by rw [nI_clamp (by omega)]) ⟨pk_in U 10 (by omega), ?_⟩⟩)))
  exact nm_r (e' := upd a3 U y) (by rw [nI_clamp (by omega)]) H
end
end
section
/-- x is a vertex of N and b says 0, or it is none and b says 1 -/
def dn_U (N : Nat) (x b : Int32) : Prop := (b = 0 ∧ ∃ U : Nat, U < N ∧ x = nI U) ∨ (b = 1 ∧ dn_bad N x)
/-- x is a weight and b says 0, or it is none and b says 1 -/
def dn_W (x b : Int32) : Prop := (b = 0 ∧ ¬ x < 0 ∧ x ≤ 20) ∨ (b = 1 ∧ (x < 0 ∨ ¬ x ≤ 20))
theorem dn_10 {b : Int32} (h : b = 1) : ¬ b = 0 := by
  rw [h]
  decide
section
variable {N U V mc ms kc ks : Nat} {f1 f2 f3 f4 : Int32} {a1 a2 a3 a4 a5 a6 a7 : Nat → Int32} {x1 x2 x3 x4 x7 x8 x9 x10 z0 z1 : Int32}
theorem dn_edgeB {post : Int32 → St2 → Prop} {x y z b c : Int32} (hN : N ≤ 10) (hx : dn_U N x b) (hy : dn_U N y c) (h : ¬ b = 0 ∨ ¬ c = 0 ∨ x = y) (H : post (-1) (nI N, f1, f2, f3, f4, a1, a2, a3, a4, a5, a6, a7)) : wpX_edge post (nI N, f1, f2, f3, f4, a1, a2, a3, a4, a5, a6, a7) x y z := by
  rcases hx with ⟨eb, U, hU, rfl⟩ | ⟨eb, hb⟩
  · rcases hy with ⟨ec, V, hV, rfl⟩ | ⟨ec, hc⟩
    · have e : U = V := by
        rcases h with h | h | h
        · exact absurd eb h
        · exact absurd ec h
        · exact (nI_eq (by omega) (by omega)).mp h
      subst e
      exact dn_edge3 hN hU H
    · exact dn_edge2 hN hU hc H
  · exact dn_edge1 hb H
theorem dn_prsE {w : Int32} (hN : N ≤ 10) (hU : U < N) (hV : V < N) (hUV : U ≠ V) : dn_prs (upd (upd (upd (upd (fun _ => 0) (U * 10 + V) w) (V * 10 + U) w) (V * 10 + U) w) (U * 10 + V) w) N = w := by
  rcases Nat.lt_or_gt_of_ne hUV with h | h
  · refine dn_prs1 h hV pk_us (fun i j hij hj hn => ?_)
    have n1 : i * 10 + j ≠ U * 10 + V := by omega
    have n2 : i * 10 + j ≠ V * 10 + U := by omega
    rw [pk_un n1, pk_un n2, pk_un n2, pk_un n1]
  · refine dn_prs1 h hU (by rw [pk_un (by omega), pk_us]) (fun i j hij hj hn => ?_)
    have n1 : i * 10 + j ≠ U * 10 + V := by omega
    have n2 : i * 10 + j ≠ V * 10 + U := by omega
    rw [pk_un n1, pk_un n2, pk_un n2, pk_un n1]
variable {post : Int32 → St0 → Prop}
theorem dn_255 (hN : N ≤ 10) (H : post 1 ()) (hT : dn_tot a1 a2 N = z1 + z0) : wL_lawOf_255 post mc ms z0 z1 kc ks (nI N) f1 f2 f3 f4 a1 a2 a3 a4 a5 a6 a7 := by
  unfold wL_lawOf_255
  exact nm_e (dn_weight hN (br_t hT H))
theorem dn_240 (hN : N ≤ 10) (H : post 1 ()) (hT : dn_tot a1 a2 N = z0 + (if x7 = 0 ∧ x9 = 0 then x3 else 0)) : wL_lawOf_240 post mc ms x3 x7 x9 z0 kc ks (nI N) f1 f2 f3 f4 a1 a2 a3 a4 a5 a6 a7 := by
  unfold wL_lawOf_240
  refine br_c (fun e7 => br_c (fun e9 => dn_255 hN H (by rw [hT, if_pos ⟨e7, e9⟩])) (fun e9 => ?_)) (fun e7 => ?_)
  · unfold wL_lawOf_250
    exact dn_255 hN H (by rw [hT, if_neg (fun t => e9 t.2)])
  · unfold wL_lawOf_250
    exact dn_255 hN H (by rw [hT, if_neg (fun t => e7 t.1)])
theorem dn_182 (hN : N ≤ 10) (H : post 1 ()) (hv : dn_U N x2 x8) (hz : z1 = z0) (h3 : ∀ j, j < N → a3 j = 0)
    (hT : dn_tot a1 a2 N = (if x10 = 0 then x3 else 0) + (if x7 = 0 ∧ x9 = 0 then x3 else 0)) : wL_lawOf_182 post mc ms x2 x3 x4 x7 x8 x9 x10 z0 z1 kc ks (nI N) f1 f2 f3 f4 a1 a2 a3 a4 a5 a6 a7 := by
  have K : ∀ b3 : Nat → Int32, (x10 = 0 → wL_lawOf_240 post mc ms x3 x7 x9 x3 kc ks (nI N) f1 f2 f3 f4 a1 a2 b3 a4 a5 a6 a7) ∧ (¬ x10 = 0 → wL_lawOf_240 post mc ms x3 x7 x9 0 kc ks (nI N) f1 f2 f3 f4 a1 a2 b3 a4 a5 a6 a7) :=
    fun b3 => br_c (fun e => dn_240 hN H (by rw [hT, if_pos e])) (fun e => dn_240 hN H (by rw [hT, if_neg e]))
  unfold wL_lawOf_182
  refine br_t hz ?_
  rcases hv with ⟨e8, V, hV, rfl⟩ | ⟨e8, hb⟩
  · refine br_t e8 ?_
    by_cases c1 : x4 < 0
    · refine br_t c1 ?_
      unfold wL_lawOf_207 wL_lawOf_213
      exact dn_mode2 hN hV (Or.inl c1) (br_t rfl (K _))
    · refine br_f c1 ?_
      by_cases c2 : x4 ≤ 2
      · refine br_t c2 ?_
        unfold wL_lawOf_213
        exact dn_mode3 hN hV c1 c2 (br_t (h3 V hV) (K _))
      · refine br_f c2 ?_
        unfold wL_lawOf_207 wL_lawOf_213
        exact dn_mode2 hN hV (Or.inr c2) (br_t rfl (K _))
  · refine br_f (dn_10 e8) ?_
    unfold wL_lawOf_213
    exact dn_mode1 hb (br_t rfl (K _))
theorem dn_150 (hN : N ≤ 10) (H : post 1 ()) (hu : dn_U N x1 x7) (hv : dn_U N x2 x8) (hw : dn_W x3 x9) (hz : z1 = z0) (hp : dn_prs a1 N = if x10 = 0 then x3 else 0) :
    wL_lawOf_150 post mc ms x1 x2 x3 x4 x7 x8 x9 x10 z0 z1 kc ks (nI N) f1 f2 f3 f4 a1 (fun _ => 0) (fun _ => 0) a4 a5 a6 a7 := by
  have E0 : bx_sum (fun _ => 0) N = 0 := dn_z N (fun _ _ => rfl)
  unfold wL_lawOf_150
  refine br_t hz ?_
  rcases hu with ⟨e7, U, hU, rfl⟩ | ⟨e7, hb⟩
  · rcases hw with ⟨e9, h1, h2⟩ | ⟨e9, h⟩
    · refine dn_bonus3 hN hU h1 h2 (br_t e7 (br_t e9 (dn_182 hN H hv rfl (fun _ _ => rfl) ?_)))
      have E1 : bx_sum (upd (fun _ => 0) U x3) N = x3 := by
        rw [dn_one (k := U) N hU (fun j _ hn => pk_un hn), pk_us]
      rw [dn_split, hp, E1, if_pos (c := x7 = 0 ∧ x9 = 0) ⟨e7, e9⟩]
      exact Int32.add_comm _ _
    · refine dn_bonus2 hN hU h (br_t e7 (br_f (dn_10 e9) (dn_182 hN H hv rfl (fun _ _ => rfl) ?_)))
      rw [dn_split, hp, E0, if_neg (c := x7 = 0 ∧ x9 = 0) (fun t => dn_10 e9 t.2)]
      exact Int32.add_comm _ _
  · refine dn_bonus1 hb (br_f (dn_10 e7) (dn_182 hN H hv rfl (fun _ _ => rfl) ?_))
    rw [dn_split, hp, E0, if_neg (c := x7 = 0 ∧ x9 = 0) (fun t => dn_10 e7 t.1)]
    exact Int32.add_comm _ _
theorem dn_114b (hN : N ≤ 10) (H : post 1 ()) (hu : dn_U N x1 x7) (hv : dn_U N x2 x8) (hw : dn_W x3 x9) (h : ¬ x7 = 0 ∨ ¬ x8 = 0 ∨ x1 = x2) :
    wL_lawOf_114 post mc ms x1 x2 x3 x4 x7 x8 x9 (-1) kc ks (nI N) f1 f2 f3 f4 (fun _ => 0) (fun _ => 0) (fun _ => 0) a4 a5 a6 a7 := by
  have h' : ¬ x8 = 0 ∨ ¬ x7 = 0 ∨ x2 = x1 := by
    rcases h with h | h | h
    · exact Or.inr (Or.inl h)
    · exact Or.inl h
    · exact Or.inr (Or.inr h.symm)
  unfold wL_lawOf_114
  refine dn_edgeB hN hu hv h (br_t rfl (dn_edgeB hN hv hu h' (br_f (by decide) (dn_150 hN H hu hv hw rfl ?_))))
  rw [if_neg (by decide)]
  exact dn_prs0 N
theorem dn_114h (hN : N ≤ 10) (H : post 1 ()) (hu : dn_U N (nI U) x7) (hv : dn_U N (nI V) x8) (hw : dn_W x3 x9) (hU : U < N) (hV : V < N) (hUV : U ≠ V) (h : x3 < 0 ∨ ¬ x3 ≤ 20) :
    wL_lawOf_114 post mc ms (nI U) (nI V) x3 x4 x7 x8 x9 (-2) kc ks (nI N) f1 f2 f3 f4 (fun _ => 0) (fun _ => 0) (fun _ => 0) a4 a5 a6 a7 := by
  unfold wL_lawOf_114
  refine dn_edge4 hN hU hV hUV h (br_t rfl (dn_edge4 hN hV hU (Ne.symm hUV) h (br_f (by decide) (dn_150 hN H hu hv hw rfl ?_))))
  rw [if_neg (by decide)]
  exact dn_prs0 N
theorem dn_114g (hN : N ≤ 10) (H : post 1 ()) (hu : dn_U N (nI U) x7) (hv : dn_U N (nI V) x8) (hw : dn_W x3 x9) (hU : U < N) (hV : V < N) (hUV : U ≠ V) (h1 : ¬ x3 < 0) (h2 : x3 ≤ 20) :
    wL_lawOf_114 post mc ms (nI U) (nI V) x3 x4 x7 x8 x9 0 kc ks (nI N) f1 f2 f3 f4 (fun _ => 0) (fun _ => 0) (fun _ => 0) a4 a5 a6 a7 := by
  unfold wL_lawOf_114
  refine dn_edge5 hN hU hV hUV h1 h2 (br_t rfl (dn_edge5 hN hV hU (Ne.symm hUV) h1 h2 (br_t rfl (dn_150 hN H hu hv hw pk_us ?_))))
  rw [if_pos rfl]
  exact dn_prsE hN hU hV hUV
theorem dn_82 (hN : N ≤ 10) (H : post 1 ()) (hu : dn_U N x1 x7) (hv : dn_U N x2 x8) (hw : dn_W x3 x9) :
    wL_lawOf_82 post mc ms x1 x2 x3 x4 x7 x8 x9 kc ks (nI N) f1 f2 f3 f4 (fun _ => 0) (fun _ => 0) (fun _ => 0) a4 a5 a6 a7 := by
  have B : (¬ x7 = 0 ∨ ¬ x8 = 0 ∨ x1 = x2) → wL_lawOf_99 post mc ms x1 x2 x3 x4 x7 x8 x9 kc ks (nI N) f1 f2 f3 f4 (fun _ => 0) (fun _ => 0) (fun _ => 0) a4 a5 a6 a7 := by
    intro h
    unfold wL_lawOf_99
    exact dn_114b hN H hu hv hw h
  unfold wL_lawOf_82
  refine br_c (fun e7 => br_c (fun e8 => br_c (fun e => B (Or.inr (Or.inr e))) (fun e => ?_)) (fun e8 => B (Or.inr (Or.inl e8)))) (fun e7 => B (Or.inl e7))
  rcases hu with ⟨_, U, hU, rfl⟩ | ⟨t, _⟩
  · rcases hv with ⟨_, V, hV, rfl⟩ | ⟨t, _⟩
    · have hUV : U ≠ V := fun t => e (congrArg nI t)
      have hu' : dn_U N (nI U) x7 := Or.inl ⟨e7, U, hU, rfl⟩
      have hv' : dn_U N (nI V) x8 := Or.inl ⟨e8, V, hV, rfl⟩
      rcases hw with ⟨e9, h1, h2⟩ | ⟨e9, h⟩
      · exact br_t e9 (dn_114g hN H hu' hv' (Or.inl ⟨e9, h1, h2⟩) hU hV hUV h1 h2)
      · exact br_f (dn_10 e9) (dn_114h hN H hu' hv' (Or.inr ⟨e9, h⟩) hU hV hUV h)
    · exact absurd e8 (dn_10 t)
  · exact absurd e7 (dn_10 t)
theorem dn_65 (hN : N ≤ 10) (H : post 1 ()) (hu : dn_U N x1 x7) (hv : dn_U N x2 x8) :
    wL_lawOf_65 post mc ms x1 x2 x3 x4 x7 x8 kc ks (nI N) f1 f2 f3 f4 (fun _ => 0) (fun _ => 0) (fun _ => 0) a4 a5 a6 a7 := by
  unfold wL_lawOf_65 wL_lawOf_77
  refine br_c (fun h => dn_82 hN H hu hv (Or.inr ⟨rfl, Or.inl h⟩)) (fun h => br_c (fun g => dn_82 hN H hu hv (Or.inl ⟨rfl, h, g⟩)) (fun g => dn_82 hN H hu hv (Or.inr ⟨rfl, Or.inr g⟩)))
theorem dn_U3 {A : Int32 → Prop} (x : Int32) (hN : N ≤ 10) (K : ∀ b, dn_U N x b → A b) : (x < 0 → A 1) ∧ (¬ x < 0 → ((x < nI N → A 0) ∧ (¬ x < nI N → A 1))) := by
  rcases pk_ix x (n := N) (by omega) with h | h | ⟨U, hU, e⟩
  · exact br_t h (K 1 (Or.inr ⟨rfl, Or.inl h⟩))
  · exact br_c (fun _ => K 1 (Or.inr ⟨rfl, Or.inr h⟩)) (fun _ => br_f (Int32.not_lt.mpr h) (K 1 (Or.inr ⟨rfl, Or.inr h⟩)))
  · exact br_f (by rw [e]; exact nI_pos (by omega)) (br_t (by rw [e]; exact nI_lt hU (by omega)) (K 0 (Or.inl ⟨rfl, U, hU, e⟩)))
theorem dn_48 (hN : N ≤ 10) (H : post 1 ()) (hu : dn_U N x1 x7) : wL_lawOf_48 post mc ms x1 x2 x3 x4 (nI N) x7 kc ks (nI N) f1 f2 f3 f4 (fun _ => 0) (fun _ => 0) (fun _ => 0) a4 a5 a6 a7 := by
  unfold wL_lawOf_48 wL_lawOf_60
  exact dn_U3 (A := fun b => wL_lawOf_65 post mc ms x1 x2 x3 x4 x7 b kc ks (nI N) f1 f2 f3 f4 (fun _ => 0) (fun _ => 0) (fun _ => 0) a4 a5 a6 a7) x2 hN (fun b hb => dn_65 hN H hu hb)
theorem dn_31 (hN : N ≤ 10) (H : post 1 ()) : wL_lawOf_31 post mc ms x1 x2 x3 x4 (nI N) kc ks (nI N) f1 f2 f3 f4 (fun _ => 0) (fun _ => 0) (fun _ => 0) a4 a5 a6 a7 := by
  unfold wL_lawOf_31 wL_lawOf_43
  exact dn_U3 (A := fun b => wL_lawOf_48 post mc ms x1 x2 x3 x4 (nI N) b kc ks (nI N) f1 f2 f3 f4 (fun _ => 0) (fun _ => 0) (fun _ => 0) a4 a5 a6 a7) x1 hN (fun b hb => dn_48 hN H hb)
end
end
section
theorem dn_1le {x : Int32} (h : 1 ≤ x) : ¬ x < 0 := fun g => absurd (Int32.lt_of_le_of_lt h g) (by decide)
theorem dn_lawOf {post : Int32 → St0 → Prop} {p0 p1 p2 p3 p4 : Int32} (H : post 1 ()) : wpL_lawOf post 8 312 () p0 p1 p2 p3 p4 := by
  unfold wpL_lawOf
  refine ⟨by decide, by decide, 7, 300, by decide, by decide, ?_⟩
  unfold wpX_init
  refine ⟨by decide, by decide, by decide, by decide, by decide, by decide, by decide, by decide, by decide, by decide, by decide, by decide, by decide, by decide, ?_⟩
  refine br_c (fun h => ?_) (fun h => ?_)
  · unfold wX_init_70
    refine br_c (fun g => ?_) (fun g => ?_)
    · refine br_t h (br_t g ?_)
      obtain ⟨N, hN, rfl⟩ := nI_of2 (M := 10) (n := 10) (by decide) (dn_1le h) g
      exact dn_31 hN H
    · exact br_t h (br_f g (dn_31 (N := 10) (by decide) H))
  · unfold wX_init_70
    exact br_t (by decide) (br_f h (dn_31 (N := 1) (by decide) H))
theorem dn_cell {post : Int32 → Prop} {L : Nat} {xs : Nat → Int32} {p : Int32} (k : Nat) (hk : p = nI k) (hL : L ≤ 5) (h5 : k < 5) (K : ∀ r, post r) : wpL_cellAt post L xs () p := by
  unfold wpL_cellAt
  exact pk_le L k (fun _ => K _) (fun z => ⟨pk_in k L z hk, K _⟩) rfl hk
theorem i_vc (xs : Nat → Int32) (L : Nat) (hL : L ≤ 5) : wpL_law (fun r => r = 1) L xs := by
  unfold wpL_law
  exact dn_cell 0 rfl hL (by decide) (fun r1 => dn_cell 1 rfl hL (by decide) (fun r2 => dn_cell 2 rfl hL (by decide) (fun r3 => dn_cell 3 rfl hL (by decide) (fun r4 => dn_cell 4 rfl hL (by decide) (fun r5 => ⟨8, 312, by decide, by decide, dn_lawOf rfl⟩)))))
end
