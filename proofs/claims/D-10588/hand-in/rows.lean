section
/-! the class's methods, at a count of 0 or 1: the arrays order and ones hold zeros alone, whatever else happens -/
theorem hr_zu (k : Nat) : upd (fun _ => 0) k 0 = (fun _ => 0) := by
  funext j
  unfold upd
  split <;> rfl
theorem hr_p0 (x : Int32) : x + 0 = x := Int32.add_zero x
theorem hr_in8 : vp_in 0 8 := vp_in_iff.mpr (by decide)
theorem hr_in0 : vp_in 0 104 := vp_in_iff.mpr (by decide)
theorem hr_in104 {k : Nat} (h : k < 104) : vp_in (nI k + 0) 104 := by
  rw [hr_p0]
  exact vp_in_nI h (by omega)
theorem hr_inT {k : Nat} (h : k < 104) : vp_in (nI k + 0 + 0) 104 := by
  rw [hr_p0, hr_p0]
  exact vp_in_nI h (by omega)
theorem hr_90 {post : St2 → Prop} {x1 x2 x6 z0 b : Int32} {a1 a3 a5 : Nat → Int32} {t : Nat} (ht : t < 104)
    (H : ∀ a3' a5', post (1, b, a1, (fun _ => 0), a3', (fun _ => 0), a5')) :
    wX_part_90 post (wX_part_29 post x1 x2 (nI t) 1 b 1) x1 x2 (nI t) 0 0 x6 0 0 z0 1 b a1 (fun _ => 0) a3 (fun _ => 0) a5 := by
  unfold wX_part_90
  unfold wpX_at
  dsimp only
  refine ⟨hr_in8, br_c (fun _ => ⟨hr_in104 ht, nm_r (hr_zu _) ⟨hr_in104 ht, nm_e (nm_e (nm_e ?_))⟩⟩) (fun _ => ⟨hr_in8, nm_r (hr_zu _) ⟨hr_in8, nm_e (nm_e (nm_e ?_))⟩⟩)⟩
  · exact br_t (by decide) ⟨1, br_t (by decide) (H _ _)⟩
  · exact br_t (by decide) ⟨2, br_f (by decide) ⟨hr_in8, hr_inT ht, nm_r (hr_zu _) ⟨hr_in8, hr_inT ht, nm_e (nm_e (br_t (by decide) (H _ _)))⟩⟩⟩
theorem hr_part {post : St2 → Prop} {cnt b : Int32} {a1 a3 a5 : Nat → Int32} {c : Nat} (hc : c < 12) (hn : cnt = 0 ∨ cnt = 1)
    (H : ∀ a3' a5', post (cnt, b, a1, (fun _ => 0), a3', (fun _ => 0), a5')) :
    wpX_part post (cnt, b, a1, (fun _ => 0), a3, (fun _ => 0), a5) (nI c) := by
  unfold wpX_part
  dsimp only
  refine nm_r (pk_mul 8 c) (nm_r (nI_add (8 * c) 8) (nm_e (nm_e ?_)))
  rcases hn with rfl | rfl
  · exact ⟨1, br_t (by decide) ⟨1, br_t (by decide) (H _ _)⟩⟩
  · exact ⟨2, br_f (by decide) ⟨hr_in104 (by omega), nm_e ⟨hr_in104 (by omega), nm_e (br_c (fun _ => br_c (fun _ => hr_90 (by omega) H) (fun _ => hr_90 (by omega) H)) (fun _ => br_c (fun _ => hr_90 (by omega) H) (fun _ => hr_90 (by omega) H)))⟩⟩⟩
theorem hr_b40 {post : St2 → Prop} {cnt : Int32} {a1 : Nat → Int32} (hn : cnt = 0 ∨ cnt = 1)
    (H : ∀ b a3 a5, post (cnt, b, a1, (fun _ => 0), a3, (fun _ => 0), a5)) (k : Nat) :
    ∀ (c : Nat) (b : Int32) (a3 a5 : Nat → Int32), c + k = 12 → wX_build_40 post (k + 1) (nI c) cnt b a1 (fun _ => 0) a3 (fun _ => 0) a5 := by
  induction k with
  | zero => exact fun c b a3 a5 h => br_t (nI_le (a := 12) (by omega) (by omega)) (H 1 a3 a5)
  | succ k ih => exact fun c b a3 a5 h => br_f (nI_ge (b := 12) (by omega) (by decide)) (hr_part (by omega) hn (fun a3' a5' => nm_r (nI_1 c) (ih (c + 1) b a3' a5' (by omega))))
theorem hr_build {post : St2 → Prop} {cnt b : Int32} {a1 a3 a5 : Nat → Int32} (hn : cnt = 0 ∨ cnt = 1)
    (H : ∀ b a3 a5, post (cnt, b, a1, (fun _ => 0), a3, (fun _ => 0), a5)) :
    wpX_build post (cnt, b, a1, (fun _ => 0), a3, (fun _ => 0), a5) := by
  refine br_c (fun _ => ?_) (fun _ => H b a3 a5)
  rcases hn with rfl | rfl
  · exact ⟨1, br_t (by decide) ⟨13, hr_b40 (Or.inl rfl) H 12 0 b a3 a5 rfl⟩⟩
  · exact ⟨2, br_f (by decide) ⟨hr_in0, nm_r (hr_zu _) ⟨hr_in0, nm_e (nm_e (br_t (by decide) ⟨13, hr_b40 (Or.inr rfl) H 12 0 b _ a5 rfl⟩))⟩⟩⟩
/-- the answer of kinds at a count i of 0 or 1 -/
def hr_K (i a n : Int32) : Int32 := if a < 0 then -1 else if 12 ≤ n then -1 else if a ≤ n then i else -1
theorem hr_kinds {post : Int32 → St2 → Prop} {cnt b p0 p1 : Int32} {a1 a3 a5 : Nat → Int32} (hn : cnt = 0 ∨ cnt = 1)
    (H : ∀ b a3 a5, post (hr_K cnt p0 p1) (cnt, b, a1, (fun _ => 0), a3, (fun _ => 0), a5)) :
    wpX_kinds post (cnt, b, a1, (fun _ => 0), a3, (fun _ => 0), a5) p0 p1 := by
  unfold hr_K at H
  refine br_c (fun h1 => ?_) (fun h1 => br_c (fun h2 => ?_) (fun h2 => br_c (fun h3 => hr_build hn (fun b a3 a5 => ?_)) (fun h3 => ?_)))
  · rw [if_pos h1] at H
    exact H b a3 a5
  · rw [if_neg h1, if_pos h2] at H
    exact H b a3 a5
  · rw [if_neg h1, if_neg h2, if_pos h3] at H
    rcases hn with rfl | rfl
    · exact ⟨1, br_t (by decide) (H b a3 a5)⟩
    · exact ⟨2, br_f (by decide) (br_t rfl (nm_e (nm_e (br_t (by decide) (H b a3 a5)))))⟩
  · rw [if_neg h1, if_neg h2, if_neg h3] at H
    exact H b a3 a5
/-- the answer of having at a count of 1, the row w -/
def hr_H (w x a n : Int32) : Int32 :=
  if a < 0 then -1 else if 12 < a then -1 else if n < 0 then -1 else if 12 < n then -1 else if 12 < a + n then -1 else
  if (w >>> (a &&& 31)) &&& (((1 : Int32) <<< (n &&& 31)) - 1) = x &&& (((1 : Int32) <<< (n &&& 31)) - 1) then 1 else 0
theorem hr_ltT {x y : Int32} : x < y ↔ x.toInt < y.toInt := Int32.lt_iff_toInt_lt
theorem hr_leT {x y : Int32} : x ≤ y ↔ x.toInt ≤ y.toInt := Int32.le_iff_toInt_le
theorem hr_nlt {x y : Int32} (h : ¬ y < x) : x ≤ y := by
  rw [hr_ltT] at h
  rw [hr_leT]
  omega
theorem hr_having {post : Int32 → St2 → Prop} {b p0 p1 p2 : Int32} {a1 a3 a5 : Nat → Int32} (hx : ¬ p2 < 0) (hy : p2 ≤ 4095)
    (H : ∀ b a3 a5, post (hr_H (a1 0) p2 p0 p1) (1, b, a1, (fun _ => 0), a3, (fun _ => 0), a5)) :
    wpX_having post (1, b, a1, (fun _ => 0), a3, (fun _ => 0), a5) p0 p1 p2 := by
  unfold hr_H at H
  refine br_c (fun h1 => ?_) (fun h1 => br_c (fun h2 => ?_) (fun h2 => br_c (fun h3 => ?_) (fun h3 => br_c (fun h4 => ?_) (fun h4 => br_c (fun h5 => ?_) (fun h5 => br_f hx (br_t hy (hr_build (Or.inr rfl) (fun b a3 a5 => ?_))))))))
  · rw [if_pos h1] at H
    exact H b a3 a5
  · rw [if_neg h1, if_pos h2] at H
    exact H b a3 a5
  · rw [if_neg h1, if_neg h2, if_pos h3] at H
    exact H b a3 a5
  · rw [if_neg h1, if_neg h2, if_neg h3, if_pos h4] at H
    exact H b a3 a5
  · rw [if_neg h1, if_neg h2, if_neg h3, if_neg h4, if_pos h5] at H
    exact H b a3 a5
  · rw [if_neg h1, if_neg h2, if_neg h3, if_neg h4, if_neg h5] at H
    obtain ⟨j, hj, ej⟩ := nI_of2 (M := 12) (n := 12) (by decide) h1 (hr_nlt h2)
    obtain ⟨k, hk, ek⟩ := nI_of2 (M := 12) (n := 12) (by decide) h3 (hr_nlt h4)
    have hs : p0 + p1 = nI (j + k) := by rw [ej, ek, nI_add]
    have hjk : j + k ≤ 12 := by
      rcases Nat.lt_or_ge 12 (j + k) with z | z
      · exact absurd (by rw [hs]; exact nI_lt z (by omega)) h5
      · exact z
    have hin : vp_in (8 * (p0 + p1) + 0) 104 := by
      rw [hs]
      have e8 : 8 * nI (j + k) = nI (8 * (j + k)) := pk_mul 8 (j + k)
      rw [e8]
      exact hr_in104 (by omega)
    refine nm_e (nm_e ⟨2, br_f (by decide) (br_t rfl (br_t rfl ⟨hin, hr_in8, br_c (fun h => br_f (by decide) (nm_e (nm_e (br_t (by decide) ?_)))) (fun h => br_t rfl (nm_e (br_t (by decide) ?_)))⟩))⟩)
    · have h' : (a1 0 >>> (p0 &&& 31)) &&& (((1 : Int32) <<< (p1 &&& 31)) - 1) = p2 &&& (((1 : Int32) <<< (p1 &&& 31)) - 1) := h
      rw [if_pos h'] at H
      exact H b a3 a5
    · have h' : ¬ (a1 0 >>> (p0 &&& 31)) &&& (((1 : Int32) <<< (p1 &&& 31)) - 1) = p2 &&& (((1 : Int32) <<< (p1 &&& 31)) - 1) := h
      rw [if_neg h'] at H
      exact H b a3 a5
theorem hr_having0 {post : Int32 → St2 → Prop} {u : St2} {p0 p1 p2 : Int32} (hx : p2 < 0 ∨ ¬ p2 ≤ 4095) (H : post (-1) u) : wpX_having post u p0 p1 p2 := by
  obtain ⟨c, b, a1, a2, a3, a4, a5⟩ := u
  refine br_c (fun _ => H) (fun _ => br_c (fun _ => H) (fun _ => br_c (fun _ => H) (fun _ => br_c (fun _ => H) (fun _ => br_c (fun _ => H) (fun _ => ?_)))))
  rcases hx with h | h
  · exact br_t h H
  · exact br_c (fun _ => H) (fun _ => br_f h H)
/-- the answer of ordered at a count of 1 -/
def hr_O (c r : Int32) : Int32 := if c < 0 then -4 else if 12 < c then -4 else if r < 0 then -4 else if r < 1 then 0 else -4
theorem hr_is0 {x : Int32} (h : ¬ x < 0) (h1 : x < 1) : x = 0 := by
  rw [hr_ltT, show (0 : Int32).toInt = 0 from by decide] at h
  rw [hr_ltT, show (1 : Int32).toInt = 1 from by decide] at h1
  apply Int32.toInt_inj.mp
  rw [show (0 : Int32).toInt = 0 from by decide]
  omega
theorem hr_ordered {post : Int32 → St2 → Prop} {b p0 p1 : Int32} {a1 a3 a5 : Nat → Int32}
    (H : ∀ b a3 a5, post (hr_O p0 p1) (1, b, a1, (fun _ => 0), a3, (fun _ => 0), a5)) :
    wpX_ordered post (1, b, a1, (fun _ => 0), a3, (fun _ => 0), a5) p0 p1 := by
  unfold hr_O at H
  unfold wpX_ordered
  dsimp only
  unfold wpX_noPlace
  dsimp only
  refine br_c (fun h1 => br_f (by decide) ?_) (fun h1 => br_c (fun h2 => br_f (by decide) ?_) (fun h2 => br_c (fun h3 => br_f (by decide) ?_) (fun h3 => br_c (fun h4 => br_t rfl (hr_build (Or.inr rfl) (fun b a3 a5 => ?_))) (fun h4 => br_f (by decide) ?_))))
  · rw [if_pos h1] at H
    exact H b a3 a5
  · rw [if_neg h1, if_pos h2] at H
    exact H b a3 a5
  · rw [if_neg h1, if_neg h2, if_pos h3] at H
    exact H b a3 a5
  · rw [if_neg h1, if_neg h2, if_neg h3, if_pos h4] at H
    obtain ⟨j, hj, ej⟩ := nI_of2 (M := 12) (n := 12) (by decide) h1 (hr_nlt h2)
    have hin : vp_in (8 * p0 + p1) 104 := by
      rw [hr_is0 h3 h4, ej]
      have e8 : 8 * nI j = nI (8 * j) := pk_mul 8 j
      rw [e8]
      exact hr_in104 (by omega)
    exact ⟨hin, H b a3 a5⟩
  · rw [if_neg h1, if_neg h2, if_neg h3, if_neg h4] at H
    exact H b a3 a5
theorem hr_ordered0 {post : Int32 → St2 → Prop} {b p0 p1 : Int32} {a1 a2 a3 a4 a5 : Nat → Int32} (H : post (-4) (0, b, a1, a2, a3, a4, a5)) :
    wpX_ordered post (0, b, a1, a2, a3, a4, a5) p0 p1 := by
  unfold wpX_ordered
  dsimp only
  unfold wpX_noPlace
  dsimp only
  exact br_c (fun _ => br_f (by decide) H) (fun _ => br_c (fun _ => br_f (by decide) H) (fun _ => br_c (fun _ => br_f (by decide) H) (fun h => br_f h (br_f (by decide) H))))
theorem hr_add {post : Int32 → St2 → Prop} {b x : Int32} {a1 a2 a3 a4 a5 : Nat → Int32} (h0 : ¬ x < 0) (h1 : x ≤ 4095) (H : post 0 (1, 0, upd a1 0 x, a2, a3, a4, a5)) :
    wpX_add post (0, b, a1, a2, a3, a4, a5) x :=
  br_f h0 (br_t h1 (br_f (by decide) ⟨hr_in8, nm_e (nm_e H)⟩))
theorem hr_add0 {post : Int32 → St2 → Prop} {b x : Int32} {a1 a2 a3 a4 a5 : Nat → Int32} (hx : x < 0 ∨ ¬ x ≤ 4095) (H : post (-1) (0, b, a1, a2, a3, a4, a5)) :
    wpX_add post (0, b, a1, a2, a3, a4, a5) x := by
  rcases hx with h | h
  · exact br_t h H
  · exact br_c (fun _ => H) (fun _ => br_f h H)
theorem hr_remove {post : Int32 → St2 → Prop} {b : Int32} {a1 a2 a3 a4 a5 : Nat → Int32} (H : post (a1 0) (0, 0, a1, a2, a3, a4, a5)) :
    wpX_remove post (1, b, a1, a2, a3, a4, a5) :=
  br_f (by decide) (nm_e ⟨hr_in8, H⟩)
theorem hr_remove0 {post : Int32 → St2 → Prop} {b : Int32} {a1 a2 a3 a4 a5 : Nat → Int32} (H : post (-4) (0, b, a1, a2, a3, a4, a5)) :
    wpX_remove post (0, b, a1, a2, a3, a4, a5) :=
  br_t rfl H
theorem hr_turn0 {post : Int32 → St2 → Prop} {b p0 p1 : Int32} {a1 a2 a3 a4 a5 : Nat → Int32} (H : post (-4) (0, b, a1, a2, a3, a4, a5)) :
    wpX_turn post (0, b, a1, a2, a3, a4, a5) p0 p1 := by
  unfold wpX_turn
  dsimp only
  unfold wpX_noRow
  dsimp only
  exact br_c (fun _ => br_f (by decide) H) (fun h => br_f h (br_f (by decide) H))
/-- turn at a count of 1: the two roads -/
theorem hr_turn {post : Int32 → St2 → Prop} {b p0 p1 : Int32} {a1 a2 a3 a4 a5 : Nat → Int32}
    (H0 : ¬ (p0 = 0 ∧ ¬ p1 < 0 ∧ p1 < 12) → post (-4) (1, b, a1, a2, a3, a4, a5))
    (H1 : p0 = 0 → ¬ p1 < 0 → p1 < 12 → post (((a1 0 ^^^ ((1 : Int32) <<< (p1 &&& 31))) >>> (p1 &&& 31)) &&& 1) (1, 0, upd a1 0 (a1 0 ^^^ ((1 : Int32) <<< (p1 &&& 31))), a2, a3, a4, a5)) :
    wpX_turn post (1, b, a1, a2, a3, a4, a5) p0 p1 := by
  unfold wpX_turn
  dsimp only
  unfold wpX_noRow
  dsimp only
  refine br_c (fun h1 => br_f (by decide) (H0 (fun t => ?_))) (fun h1 => br_c (fun h2 => br_t rfl (br_c (fun h3 => H0 (fun t => t.2.1 h3)) (fun h3 => br_c (fun h4 => ?_) (fun h4 => H0 (fun t => h4 t.2.2))))) (fun h2 => br_f (by decide) (H0 (fun t => ?_))))
  · rw [t.1] at h1
    exact absurd h1 (by decide)
  · have e : p0 = 0 := hr_is0 h1 h2
    subst e
    exact ⟨hr_in8, hr_in8, nm_e ⟨hr_in8, H1 rfl h3 h4⟩⟩
  · rw [t.1] at h2
    exact h2 (by decide)
end
section
/-! what the law expects, as plain functions of the script; i: the flag 'in', t: 'turns', w: 'now', s: 'span', m: 'same' -/
def hr_t (i r c : Int32) : Int32 := if i = 0 then 0 else if r = 0 then (if c < 0 then 0 else if 11 < c then 0 else 1) else 0
def hr_w (t x c : Int32) : Int32 := if t = 0 then x else x ^^^ ((1 : Int32) <<< (c &&& 31))
def hr_k (i a n : Int32) : Int32 := if a < 0 then -1 else if 11 < a then -1 else if n < 0 then -1 else if 11 < n then -1 else if a ≤ n then (if i = 0 then 0 else 1) else -1
def hr_s (a n : Int32) : Int32 := if n < 0 then 0 else if 12 < n then 0 else if a < 0 then 0 else if 12 < a then 0 else if 12 < a + n then 0 else 1
def hr_m (s i w x a n : Int32) : Int32 := if s = 0 then 0 else if i = 0 then 0 else if ((w >>> (a &&& 31)) ^^^ x) &&& (((1 : Int32) <<< (n &&& 31)) - 1) = 0 then 1 else 0
def hr_ord (i r c : Int32) : Int32 := if i = 0 then -4 else if r = 0 then (if c < 0 then -4 else if 12 < c then -4 else 0) else -4
def hr_g (i w : Int32) : Int32 := if i = 0 then -4 else w
def hr_hv (s i m : Int32) : Int32 := if s = 0 then -1 else if i = 0 then -1 else if m = 0 then 0 else 1
def hr_tn (t w c : Int32) : Int32 := if t = 0 then -4 else (w >>> (c &&& 31)) &&& 1
def hr_ad (i : Int32) : Int32 := if i = 0 then -1 else 0
/-- the six answers are the ones that the law expects -/
def hr_A (r c a n x6 x7 x8 x9 x10 x11 i t w s m : Int32) : Prop :=
  x6 = hr_ad i ∧ x7 = hr_tn t w c ∧ x8 = hr_k i a n ∧ x9 = hr_hv s i m ∧ x10 = hr_ord i r c ∧ x11 = hr_g i w
/-! the law's checks, from the last to the first -/
theorem hr_333 {mc ms kc ks : Nat} {x11 x12 x14 z0 z1 : Int32} (e : z1 = z0) (e11 : x11 = hr_g x12 x14) :
    wL_lawOf_333 (fun r _ => r = 1) mc ms x11 x12 x14 z0 z1 kc ks := by
  unfold hr_g at e11
  exact br_t e (br_c (fun h => br_t (by rw [e11, if_pos h]) rfl) (fun h => br_t (by rw [e11, if_neg h]) rfl))
theorem hr_303 {mc ms kc ks : Nat} {x1 x2 x10 x11 x12 x14 z0 z1 : Int32} (e : z1 = z0) (e10 : x10 = hr_ord x12 x1 x2) (e11 : x11 = hr_g x12 x14) :
    wL_lawOf_303 (fun r _ => r = 1) mc ms x1 x2 x10 x11 x12 x14 z0 z1 kc ks := by
  unfold hr_ord at e10
  refine br_t e (br_c (fun h => hr_333 ?_ e11) (fun h => br_c (fun h2 => br_c (fun h3 => hr_333 ?_ e11) (fun h3 => br_c (fun h4 => hr_333 ?_ e11) (fun h4 => hr_333 ?_ e11))) (fun h2 => hr_333 ?_ e11)))
  · rw [e10, if_pos h]
  · rw [e10, if_neg h, if_pos h2, if_pos h3]
  · rw [e10, if_neg h, if_pos h2, if_neg h3, if_pos h4]
  · rw [e10, if_neg h, if_pos h2, if_neg h3, if_neg h4]
  · rw [e10, if_neg h, if_neg h2]
theorem hr_274 {mc ms kc ks : Nat} {x1 x2 x9 x10 x11 x12 x14 x15 x16 z0 z1 : Int32} (e : z1 = z0) (e9 : x9 = hr_hv x15 x12 x16) (e10 : x10 = hr_ord x12 x1 x2) (e11 : x11 = hr_g x12 x14) :
    wL_lawOf_274 (fun r _ => r = 1) mc ms x1 x2 x9 x10 x11 x12 x14 x15 x16 z0 z1 kc ks := by
  unfold hr_hv at e9
  refine br_t e (br_c (fun h => hr_303 ?_ e10 e11) (fun h => br_c (fun h2 => hr_303 ?_ e10 e11) (fun h2 => br_c (fun h3 => hr_303 ?_ e10 e11) (fun h3 => hr_303 ?_ e10 e11))))
  · rw [e9, if_pos h]
  · rw [e9, if_neg h, if_pos h2]
  · rw [e9, if_neg h, if_neg h2, if_pos h3]
  · rw [e9, if_neg h, if_neg h2, if_neg h3]
theorem hr_227 {mc ms kc ks : Nat} {x1 x2 x3 x4 x8 x9 x10 x11 x12 x14 x15 x16 z0 z1 : Int32} (e : z1 = z0) (e8 : x8 = hr_k x12 x3 x4) (e9 : x9 = hr_hv x15 x12 x16) (e10 : x10 = hr_ord x12 x1 x2) (e11 : x11 = hr_g x12 x14) :
    wL_lawOf_227 (fun r _ => r = 1) mc ms x1 x2 x3 x4 x8 x9 x10 x11 x12 x14 x15 x16 z0 z1 kc ks := by
  unfold hr_k at e8
  refine br_t e (br_c (fun h => hr_274 ?_ e9 e10 e11) (fun h => br_c (fun h2 => hr_274 ?_ e9 e10 e11) (fun h2 => br_c (fun h3 => hr_274 ?_ e9 e10 e11) (fun h3 => br_c (fun h4 => hr_274 ?_ e9 e10 e11) (fun h4 => br_c (fun h5 => br_c (fun h6 => hr_274 ?_ e9 e10 e11) (fun h6 => hr_274 ?_ e9 e10 e11)) (fun h5 => hr_274 ?_ e9 e10 e11))))))
  · rw [e8, if_pos h]
  · rw [e8, if_neg h, if_pos h2]
  · rw [e8, if_neg h, if_neg h2, if_pos h3]
  · rw [e8, if_neg h, if_neg h2, if_neg h3, if_pos h4]
  · rw [e8, if_neg h, if_neg h2, if_neg h3, if_neg h4, if_pos h5, if_pos h6]
  · rw [e8, if_neg h, if_neg h2, if_neg h3, if_neg h4, if_pos h5, if_neg h6]
  · rw [e8, if_neg h, if_neg h2, if_neg h3, if_neg h4, if_neg h5]
theorem hr_206 {mc ms kc ks : Nat} {x1 x2 x3 x4 x7 x8 x9 x10 x11 x12 x13 x14 x15 x16 z0 z1 : Int32} (e : z1 = z0) (e7 : x7 = hr_tn x13 x14 x2) (e8 : x8 = hr_k x12 x3 x4) (e9 : x9 = hr_hv x15 x12 x16) (e10 : x10 = hr_ord x12 x1 x2) (e11 : x11 = hr_g x12 x14) :
    wL_lawOf_206 (fun r _ => r = 1) mc ms x1 x2 x3 x4 x7 x8 x9 x10 x11 x12 x13 x14 x15 x16 z0 z1 kc ks := by
  unfold hr_tn at e7
  refine br_t e (br_c (fun h => hr_227 ?_ e8 e9 e10 e11) (fun h => hr_227 ?_ e8 e9 e10 e11))
  · rw [e7, if_pos h]
  · rw [e7, if_neg h]
theorem hr_192 {mc ms kc ks : Nat} {x1 x2 x3 x4 x6 x7 x8 x9 x10 x11 x12 x13 x14 x15 z0 : Int32} (A : hr_A x1 x2 x3 x4 x6 x7 x8 x9 x10 x11 x12 x13 x14 x15 z0) :
    wL_lawOf_192 (fun r _ => r = 1) mc ms x1 x2 x3 x4 x6 x7 x8 x9 x10 x11 x12 x13 x14 x15 z0 kc ks := by
  obtain ⟨e6, e7, e8, e9, e10, e11⟩ := A
  unfold hr_ad at e6
  refine br_c (fun h => hr_206 ?_ e7 e8 e9 e10 e11) (fun h => hr_206 ?_ e7 e8 e9 e10 e11)
  · rw [e6, if_pos h]
  · rw [e6, if_neg h]
theorem hr_159 {mc ms kc ks : Nat} {x0 x1 x2 x3 x4 x6 x7 x8 x9 x10 x11 x12 x13 x14 z0 : Int32} (A : hr_A x1 x2 x3 x4 x6 x7 x8 x9 x10 x11 x12 x13 x14 z0 (hr_m z0 x12 x14 x0 x3 x4)) :
    wL_lawOf_159 (fun r _ => r = 1) mc ms x0 x1 x2 x3 x4 x6 x7 x8 x9 x10 x11 x12 x13 x14 z0 kc ks := by
  unfold hr_m at A
  refine br_c (fun h => hr_192 ?_) (fun h => br_c (fun h2 => hr_192 ?_) (fun h2 => br_c (fun h3 => hr_192 ?_) (fun h3 => hr_192 ?_)))
  · rw [if_pos h] at A
    exact A
  · rw [if_neg h, if_pos h2] at A
    exact A
  · rw [if_neg h, if_neg h2, if_pos h3] at A
    exact A
  · rw [if_neg h, if_neg h2, if_neg h3] at A
    exact A
theorem hr_121 {mc ms kc ks : Nat} {x0 x1 x2 x3 x4 x6 x7 x8 x9 x10 x11 x12 x13 z0 : Int32} (A : hr_A x1 x2 x3 x4 x6 x7 x8 x9 x10 x11 x12 x13 z0 (hr_s x3 x4) (hr_m (hr_s x3 x4) x12 z0 x0 x3 x4)) :
    wL_lawOf_121 (fun r _ => r = 1) mc ms x0 x1 x2 x3 x4 x6 x7 x8 x9 x10 x11 x12 x13 z0 kc ks := by
  unfold hr_s at A
  refine br_c (fun h => hr_159 ?_) (fun h => br_c (fun h2 => hr_159 ?_) (fun h2 => br_c (fun h3 => hr_159 ?_) (fun h3 => br_c (fun h4 => hr_159 ?_) (fun h4 => br_c (fun h5 => hr_159 ?_) (fun h5 => hr_159 ?_)))))
  · rw [if_pos h] at A
    exact A
  · rw [if_neg h, if_pos h2] at A
    exact A
  · rw [if_neg h, if_neg h2, if_pos h3] at A
    exact A
  · rw [if_neg h, if_neg h2, if_neg h3, if_pos h4] at A
    exact A
  · rw [if_neg h, if_neg h2, if_neg h3, if_neg h4, if_pos h5] at A
    exact A
  · rw [if_neg h, if_neg h2, if_neg h3, if_neg h4, if_neg h5] at A
    exact A
theorem hr_105 {mc ms kc ks : Nat} {x0 x1 x2 x3 x4 x6 x7 x8 x9 x10 x11 x12 z0 : Int32} (A : hr_A x1 x2 x3 x4 x6 x7 x8 x9 x10 x11 x12 z0 (hr_w z0 x0 x2) (hr_s x3 x4) (hr_m (hr_s x3 x4) x12 (hr_w z0 x0 x2) x0 x3 x4)) :
    wL_lawOf_105 (fun r _ => r = 1) mc ms x0 x1 x2 x3 x4 x6 x7 x8 x9 x10 x11 x12 z0 kc ks := by
  unfold hr_w at A
  refine br_c (fun h => hr_121 ?_) (fun h => hr_121 ?_)
  · rw [if_pos h] at A
    exact A
  · rw [if_neg h] at A
    exact A
theorem hr_79 {mc ms kc ks : Nat} {x0 x1 x2 x3 x4 x6 x7 x8 x9 x10 x11 z0 : Int32} (A : hr_A x1 x2 x3 x4 x6 x7 x8 x9 x10 x11 z0 (hr_t z0 x1 x2) (hr_w (hr_t z0 x1 x2) x0 x2) (hr_s x3 x4) (hr_m (hr_s x3 x4) z0 (hr_w (hr_t z0 x1 x2) x0 x2) x0 x3 x4)) :
    wL_lawOf_79 (fun r _ => r = 1) mc ms x0 x1 x2 x3 x4 x6 x7 x8 x9 x10 x11 z0 kc ks := by
  unfold hr_t at A
  refine br_c (fun h => hr_105 ?_) (fun h => br_c (fun h2 => br_c (fun h3 => hr_105 ?_) (fun h3 => br_c (fun h4 => hr_105 ?_) (fun h4 => hr_105 ?_))) (fun h2 => hr_105 ?_))
  · rw [if_pos h] at A
    exact A
  · rw [if_neg h, if_pos h2, if_pos h3] at A
    exact A
  · rw [if_neg h, if_pos h2, if_neg h3, if_pos h4] at A
    exact A
  · rw [if_neg h, if_pos h2, if_neg h3, if_neg h4] at A
    exact A
  · rw [if_neg h, if_neg h2] at A
    exact A
/-! the methods' answers are the expected ones -/
theorem hr_n0 : (0 : Int32).toInt = 0 := by decide
theorem hr_n1 : (1 : Int32).toInt = 1 := by decide
theorem hr_n11 : (11 : Int32).toInt = 11 := by decide
theorem hr_n12 : (12 : Int32).toInt = 12 := by decide
theorem hr_kinds_ok {i a n : Int32} (hi : i = 0 ∨ i = 1) : hr_K i a n = hr_k i a n := by
  have e : (if i = 0 then (0 : Int32) else 1) = i := by rcases hi with rfl | rfl <;> rfl
  unfold hr_K hr_k
  rw [e]
  simp only [hr_ltT, hr_leT, hr_n0, hr_n11, hr_n12]
  repeat' split
  all_goals first | rfl | (exfalso; omega)
theorem hr_ord_ok (c r : Int32) : hr_O c r = hr_ord 1 r c := by
  unfold hr_O hr_ord
  rw [if_neg (show ¬ (1 : Int32) = 0 by decide)]
  by_cases h : r = 0
  · subst h
    rw [if_pos rfl]
    rw [if_neg (show ¬ (0 : Int32) < 0 by decide), if_pos (show (0 : Int32) < 1 by decide)]
  · rw [if_neg h]
    by_cases h1 : r < 0
    · rw [if_pos h1]
      repeat' split
      all_goals rfl
    · rw [if_neg h1, if_neg (fun h2 => h (hr_is0 h1 h2))]
      repeat' split
      all_goals rfl
theorem hr_mask (p q m : Int32) : (p ^^^ q) &&& m = 0 ↔ p &&& m = q &&& m := by
  have e : (p ^^^ q) &&& m = (p &&& m) ^^^ (q &&& m) := by
    apply Int32.toBitVec_inj.1
    show (p.toBitVec ^^^ q.toBitVec) &&& m.toBitVec = (p.toBitVec &&& m.toBitVec) ^^^ (q.toBitVec &&& m.toBitVec)
    apply BitVec.eq_of_getLsbD_eq
    intro i _
    simp only [BitVec.getLsbD_and, BitVec.getLsbD_xor]
    cases p.toBitVec.getLsbD i <;> cases q.toBitVec.getLsbD i <;> cases m.toBitVec.getLsbD i <;> rfl
  rw [e, Int32.xor_eq_zero_iff]
theorem hr_having_ok (w x a n : Int32) : hr_H w x a n = hr_hv (hr_s a n) 1 (hr_m (hr_s a n) 1 w x a n) := by
  have h10 : ¬ (1 : Int32) = 0 := by decide
  by_cases hs : n < 0 ∨ 12 < n ∨ a < 0 ∨ 12 < a ∨ 12 < a + n
  · have e : hr_s a n = 0 := by
      unfold hr_s
      rcases hs with h | h | h | h | h <;> simp only [h, if_true, ite_self]
    have e2 : hr_H w x a n = -1 := by
      unfold hr_H
      rcases hs with h | h | h | h | h <;> simp only [h, if_true, ite_self]
    rw [e, e2]
    rfl
  · have g1 : ¬ n < 0 := fun h => hs (Or.inl h)
    have g2 : ¬ 12 < n := fun h => hs (Or.inr (Or.inl h))
    have g3 : ¬ a < 0 := fun h => hs (Or.inr (Or.inr (Or.inl h)))
    have g4 : ¬ 12 < a := fun h => hs (Or.inr (Or.inr (Or.inr (Or.inl h))))
    have g5 : ¬ 12 < a + n := fun h => hs (Or.inr (Or.inr (Or.inr (Or.inr h))))
    have e : hr_s a n = 1 := by
      unfold hr_s
      rw [if_neg g1, if_neg g2, if_neg g3, if_neg g4, if_neg g5]
    rw [e]
    unfold hr_H hr_hv hr_m
    rw [if_neg g3, if_neg g4, if_neg g1, if_neg g2, if_neg g5, if_neg h10, if_neg h10, if_neg h10, if_neg h10]
    by_cases hm : (w >>> (a &&& 31)) &&& (((1 : Int32) <<< (n &&& 31)) - 1) = x &&& (((1 : Int32) <<< (n &&& 31)) - 1)
    · rw [if_pos hm, if_pos ((hr_mask _ _ _).mpr hm), if_neg h10]
    · rw [if_neg hm, if_neg (fun z => hm ((hr_mask _ _ _).mp z)), if_pos rfl]
/-- turn at a count of 1, both roads in one -/
theorem hr_turn1 {post : Int32 → St2 → Prop} {b p0 p1 : Int32} {a1 a2 a3 a4 a5 : Nat → Int32}
    (H : ∀ b a1', a1' 0 = hr_w (hr_t 1 p0 p1) (a1 0) p1 → post (hr_tn (hr_t 1 p0 p1) (hr_w (hr_t 1 p0 p1) (a1 0) p1) p1) (1, b, a1', a2, a3, a4, a5)) :
    wpX_turn post (1, b, a1, a2, a3, a4, a5) p0 p1 := by
  have h10 : ¬ (1 : Int32) = 0 := by decide
  have h12 : p1 < 12 ↔ ¬ 11 < p1 := by
    simp only [hr_ltT, hr_n11, hr_n12]
    omega
  refine hr_turn (fun h => ?_) (fun e1 e2 e3 => ?_)
  · have e : hr_t 1 p0 p1 = 0 := by
      unfold hr_t
      rw [if_neg h10]
      by_cases g : p0 = 0
      · rw [if_pos g]
        by_cases g2 : p1 < 0
        · rw [if_pos g2]
        · rw [if_neg g2]
          by_cases g3 : 11 < p1
          · rw [if_pos g3]
          · exact absurd ⟨g, g2, h12.mpr g3⟩ h
      · rw [if_neg g]
    rw [e] at H
    exact H b a1 rfl
  · have e : hr_t 1 p0 p1 = 1 := by
      unfold hr_t
      rw [if_neg h10, if_pos e1, if_neg e2, if_neg (h12.mp e3)]
    rw [e] at H
    unfold hr_tn hr_w at H
    rw [if_neg h10, if_neg h10] at H
    exact H 0 _ rfl
end
section
theorem hr_cell {post : Int32 → Prop} {L : Nat} {xs : Nat → Int32} {u : St0} {p : Int32} (k : Nat) (hp : p = nI k) (hk : k < 5) (hL : L ≤ 5) (H : ∀ v, post v) : wpL_cellAt post L xs u p := by
  subst hp
  exact pk_le L k (fun _ => H _) (fun h => ⟨vp_in_nI h (by omega), H _⟩)
theorem hr_in (x r c a n : Int32) (h0 : ¬ x < 0) (h1 : x ≤ 4095) : wpL_lawOf (fun r _ => r = 1) 6 239 () x r c a n := by
  have h2 : ¬ 4095 < x := by
    rw [hr_leT] at h1
    rw [hr_ltT]
    omega
  unfold wpL_lawOf
  refine ⟨by omega, by omega, 5, 232, by omega, by omega, ?_⟩
  unfold wpX_init
  dsimp only
  refine ⟨by omega, by omega, by omega, by omega, by omega, by omega, by omega, by omega, by omega, by omega, ?_⟩
  refine hr_add h0 h1 ?_
  dsimp only
  refine hr_turn1 (fun b a1 ha => ?_)
  dsimp only
  refine hr_kinds (Or.inr rfl) (fun b a3 a5 => ?_)
  dsimp only
  refine hr_having h0 h1 (fun b a3 a5 => ?_)
  dsimp only
  refine hr_ordered (fun b a3 a5 => ?_)
  dsimp only
  refine hr_remove ?_
  have ha' : a1 0 = hr_w (hr_t 1 r c) x c := ha
  refine br_f h0 (br_f h2 (hr_79 ⟨rfl, rfl, hr_kinds_ok (Or.inr rfl), ?_, hr_ord_ok c r, ha'⟩))
  rw [ha']
  exact hr_having_ok _ _ _ _
theorem hr_out (x r c a n : Int32) (hx : x < 0 ∨ ¬ x ≤ 4095) : wpL_lawOf (fun r _ => r = 1) 6 239 () x r c a n := by
  unfold wpL_lawOf
  refine ⟨by omega, by omega, 5, 232, by omega, by omega, ?_⟩
  unfold wpX_init
  dsimp only
  refine ⟨by omega, by omega, by omega, by omega, by omega, by omega, by omega, by omega, by omega, by omega, ?_⟩
  refine hr_add0 hx ?_
  dsimp only
  refine hr_turn0 ?_
  dsimp only
  refine hr_kinds (Or.inl rfl) (fun b a3 a5 => ?_)
  dsimp only
  refine hr_having0 hx ?_
  dsimp only
  refine hr_ordered0 ?_
  dsimp only
  refine hr_remove0 ?_
  have hv : (-1 : Int32) = hr_hv (hr_s a n) 0 (hr_m (hr_s a n) 0 (hr_w (hr_t 0 r c) x c) x a n) := by
    unfold hr_hv
    rw [if_pos (show (0 : Int32) = 0 from rfl), ite_self]
  have A : hr_A r c a n (-1) (-4) (hr_K 0 a n) (-1) (-4) (-4) 0 (hr_t 0 r c) (hr_w (hr_t 0 r c) x c) (hr_s a n) (hr_m (hr_s a n) 0 (hr_w (hr_t 0 r c) x c) x a n) :=
    ⟨rfl, rfl, hr_kinds_ok (Or.inl rfl), hv, rfl, rfl⟩
  rcases hx with h | h
  · exact br_t h (hr_79 A)
  · have h2 : 4095 < x := by
      rw [hr_leT] at h
      rw [hr_ltT]
      omega
    exact br_c (fun _ => hr_79 A) (fun _ => br_t h2 (hr_79 A))
theorem i_vc (xs : Nat → Int32) (L : Nat) (hL : L ≤ 5) : wpL_law (fun r => r = 1) L xs := by
  refine hr_cell 0 rfl (by omega) hL (fun v0 => hr_cell 1 rfl (by omega) hL (fun v1 => hr_cell 2 rfl (by omega) hL (fun v2 => hr_cell 3 rfl (by omega) hL (fun v3 => hr_cell 4 rfl (by omega) hL (fun v4 => ?_)))))
  refine ⟨6, 239, by omega, by omega, ?_⟩
  by_cases h0 : v0 < 0
  · exact hr_out v0 v1 v2 v3 v4 (Or.inl h0)
  · by_cases h1 : v0 ≤ 4095
    · exact hr_in v0 v1 v2 v3 v4 h0 h1
    · exact hr_out v0 v1 v2 v3 v4 (Or.inr h1)
end
