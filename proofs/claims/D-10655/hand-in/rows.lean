section
/-! ===== small methods, for the codes 0 .. 14 ===== -/
/-- what growth answers -/
def fg_g : Nat → Int32
  | 0 => 1 | 1 => -1 | 2 => 1 | 3 => -1 | 4 => -1 | 5 => -1 | 6 => 0 | 7 => 1 | 8 => 0 | 9 => -1 | 10 => -1 | 11 => 1 | 12 => -1 | _ => 0
/-- what uses answers -/
def fg_n : Nat → Int32
  | 1 => 1 | 2 => 1 | 3 => 2 | 4 => 2 | 5 => 2 | 6 => 2 | 7 => 2 | 9 => 1 | 10 => 1 | 12 => 1 | _ => 0
theorem fg_15 {k : Nat} (h : k ≤ 14) : k = 0 ∨ k = 1 ∨ k = 2 ∨ k = 3 ∨ k = 4 ∨ k = 5 ∨ k = 6 ∨ k = 7 ∨ k = 8 ∨ k = 9 ∨ k = 10 ∨ k = 11 ∨ k = 12 ∨ k = 13 ∨ k = 14 := by omega
theorem fg_growth {post : Int32 → Prop} {k : Nat} (hk : k ≤ 14) (H : post (fg_g k)) : wpX_growth post () (nI k) := by
  rcases fg_15 hk with rfl | rfl | rfl | rfl | rfl | rfl | rfl | rfl | rfl | rfl | rfl | rfl | rfl | rfl | rfl <;>
  repeat (first | exact br_t (by decide) H | refine br_f (by decide) ?_)
theorem fg_uses {post : Int32 → Prop} {k : Nat} (hk : k ≤ 14) (H : post (fg_n k)) : wpX_uses post () (nI k) := by
  rcases fg_15 hk with rfl | rfl | rfl | rfl | rfl | rfl | rfl | rfl | rfl | rfl | rfl | rfl | rfl | rfl | rfl <;>
  repeat (first | exact br_t (by decide) H | refine br_f (by decide) ?_)
theorem fg_jumps {post : Int32 → Prop} {x : Int32} (H : ∀ r, post r) : wpX_jumps post () x :=
  br_c (fun _ => H _) (fun _ => br_c (fun _ => H _) (fun _ => H _))
theorem fg_in0 : vp_in (0 : Int32) 24 := pk_in 0 24 (by omega)
theorem fg_cl0 : (0 : Int32).toNatClampNeg = 0 := by decide
section
variable {post : St2 → Prop} {sz ck g l st fu pc d : Int32} {a1 a2 a3 a4 a5 a6 a7 a8 a9 : Nat → Int32}
theorem fg_cost {ps : Int32 → Prop} {u : St2} (H : ∀ r, ps r) : wpX_costOf ps u 0 := by
  obtain ⟨sz, ck, g, l, st, fu, pc, d, a1, a2, a3, a4, a5, a6, a7, a8, a9⟩ := u
  exact ⟨fg_in0, br_c (fun _ => H _) (fun _ => ⟨fg_in0, br_c (fun _ => ⟨fg_in0, H _⟩) (fun _ => H _)⟩)⟩
/-! ===== makeBlocks over a program of one row ===== -/
theorem fg_mb61 {J : Int32 → (Nat → Int32) → (Nat → Int32) → (Nat → Int32) → (Nat → Int32) → (Nat → Int32) → (Nat → Int32) → (Nat → Int32) → (Nat → Int32) → (Nat → Int32) → Prop} {r : Int32}
    (H : ∀ b5 b6, J (-1) a1 a2 a3 a4 b5 b6 a7 a8 a9) : wX_makeBlocks_61 post J 0 r sz ck g l st fu pc d a1 a2 a3 a4 a5 a6 a7 a8 a9 :=
  br_f (by decide) ⟨fg_in0, nm_e (br_f (by decide) ⟨fg_in0, nm_e (nm_r (show (0 : Int32) + (-1) = -1 by decide) (H _ _))⟩)⟩
theorem fg_makeBlocks (H : ∀ b5 b6, post (1, ck, g, l, st, fu, pc, d, a1, a2, a3, a4, b5, b6, a7, a8, a9)) :
    wpX_makeBlocks post (1, ck, g, l, st, fu, pc, d, a1, a2, a3, a4, a5, a6, a7, a8, a9) := by
  refine nm_r (show (1 : Int32) - 1 = 0 by decide) ⟨2, br_f (by decide) (fg_cost (fun r => ⟨fg_in0, fg_jumps (fun r5 => ?_)⟩))⟩
  have K : ∀ r : Int32, wX_makeBlocks_61 post (wX_makeBlocks_7 post 1 ck g l st fu pc d 1) 0 r 1 ck g l st fu pc d a1 a2 a3 a4 a5 a6 a7 a8 a9 :=
    fun r => fg_mb61 (fun b5 b6 => br_t (by decide) (H b5 b6))
  exact br_c (fun _ => ⟨fg_in0, br_c (fun _ => K r) (fun _ => br_t (by decide) (K r))⟩) (fun _ => K r)
/-! ===== check: the first loop ===== -/
theorem fg_m1 {f : Nat → Int32} {i : Nat} (hi : i < 24) (h : 0 < i → f 0 = -1) : upd f (nI i).toNatClampNeg (-1) 0 = -1 := by
  rw [nI_clamp (by omega)]
  by_cases e : i = 0
  · subst e
    exact pk_us
  · rw [pk_un (by omega)]
    exact h (by omega)
theorem fg_36 (H : ∀ (n : Nat) (b3 b4 : Nat → Int32), b3 0 = -1 → wX_check_36 post sz ck g l st fu pc d (n + 1) 24 a1 a2 b3 b4 a5 a6 a7 a8 a9) :
    ∃ n, wX_check_36 post sz ck g l st fu pc d n 0 a1 a2 a3 a4 a5 a6 a7 a8 a9 :=
  pk_loop (σ := (Nat → Int32) × (Nat → Int32)) (fun n i t => wX_check_36 post sz ck g l st fu pc d n (nI i) a1 a2 t.1 t.2 a5 a6 a7 a8 a9)
    (fun i t => 0 < i → t.1 0 = -1) 24 0 (a3, a4) (by omega) (fun h => absurd h (by omega))
    (fun n t h => H n t.1 t.2 (h (by omega)))
    (fun n i t hi h hw => pk_le 24 i (fun z => absurd z (by omega)) (fun _ => ⟨pk_in i 24 hi, nm_e (br_c
      (fun _ => ⟨pk_in i 24 hi, nm_e (nm_r (nI_1 i) (hw (_, _) (fun _ => fg_m1 hi h)))⟩)
      (fun _ => ⟨pk_in i 24 hi, nm_e (nm_r (nI_1 i) (hw (_, _) (fun _ => fg_m1 hi h)))⟩))⟩))
/-- check over the empty program -/
theorem fg_check0 (H : ∀ b3 b4, post (0, 1, 0, 0, st, fu, pc, d, a1, a2, b3, b4, a5, a6, a7, a8, a9)) :
    wpX_check post (0, 0, g, l, st, fu, pc, d, a1, a2, a3, a4, a5, a6, a7, a8, a9) :=
  br_t rfl (br_t (by decide) (fg_36 (fun n b3 b4 _ => br_t (by decide) (br_t rfl ⟨1, br_t (by decide) (br_t rfl (H b3 b4))⟩))))
end
end
section
section
variable {post : St2 → Prop} {sz ck g l st fu pc d : Int32} {a1 a2 a3 a4 a5 a6 a7 a8 a9 : Nat → Int32}
/-! ===== follow, and check, over a program of one row: code k, number c ===== -/
/-- comeTo behind the end -/
theorem fg_come1 {h : Int32} (H : post (1, ck, 0, l, st, fu, pc, d, a1, a2, a3, a4, a5, a6, a7, a8, a9)) :
    wpX_comeTo post (1, ck, g, l, st, fu, pc, d, a1, a2, a3, a4, a5, a6, a7, a8, a9) (0 + 1) h :=
  br_f (by decide) (br_f (by decide) H)
theorem fg_only0 {c : Int32} (h : ¬ c < 0) (h1 : c < 1) : c = 0 := by
  obtain ⟨j, hj, rfl⟩ := nI_of h
  have : j < 1 := (nI_ltI hj (by decide)).mp h1
  have : j = 0 := by omega
  subst this
  exact nI_0
/-- comeTo of the one row, which has the height 0 -/
theorem fg_come {c : Int32} (h3 : a3 0 = 0) (H0 : c ≠ 0 → post (1, ck, 0, l, st, fu, pc, d, a1, a2, a3, a4, a5, a6, a7, a8, a9))
    (H1 : c = 0 → post (1, ck, g, l, st, fu, pc, d, a1, a2, a3, a4, a5, a6, a7, a8, a9)) :
    wpX_comeTo post (1, ck, g, l, st, fu, pc, d, a1, a2, a3, a4, a5, a6, a7, a8, a9) c 0 := by
  refine br_c (fun z => H0 (fun e => absurd (e ▸ z) (by decide))) (fun z => br_c (fun y => ?_) (fun y => H0 (fun e => absurd (show c < 1 by rw [e]; decide) y)))
  have e := fg_only0 z y
  subst e
  have h3' : a3 (0 : Int32).toNatClampNeg = 0 := by rw [fg_cl0]; exact h3
  exact ⟨fg_in0, br_t (by rw [h3']; decide) ⟨fg_in0, br_t h3' (H1 rfl)⟩⟩
/-- the law's word: is the program of this one row sound? -/
def fg_ok (k : Nat) (c : Int32) : Prop := k = 13 ∨ (k = 8 ∧ c = 0)
theorem fg_follow {k : Nat} (hk : k ≤ 14) (h1 : a1 0 = nI k) (h3 : a3 0 = 0)
    (H0 : ¬ fg_ok k (a2 0) → ∀ b4, post (1, ck, 0, l, st, fu, pc, d, a1, a2, a3, b4, a5, a6, a7, a8, a9))
    (H1 : fg_ok k (a2 0) → ∀ b4, post (1, ck, 1, l, st, fu, pc, d, a1, a2, a3, b4, a5, a6, a7, a8, a9)) :
    wpX_follow post (1, ck, 1, l, st, fu, pc, d, a1, a2, a3, a4, a5, a6, a7, a8, a9) 0 := by
  have h1' : a1 (0 : Int32).toNatClampNeg = nI k := by rw [fg_cl0]; exact h1
  have h2' : a2 (0 : Int32).toNatClampNeg = a2 0 := by rw [fg_cl0]
  have h3' : a3 (0 : Int32).toNatClampNeg = 0 := by rw [fg_cl0]; exact h3
  refine ⟨fg_in0, nm_r h1' ⟨fg_in0, nm_r h3' (fg_growth hk (nm_e (fg_uses hk ?_)))⟩⟩
  by_cases e13 : k = 13
  · subst e13
    exact br_f (by decide) (br_t (by decide) (br_t (by decide) (H1 (Or.inl rfl) _)))
  by_cases e8 : k = 8
  · subst e8
    refine br_f (by decide) (br_t (by decide) (br_f (by decide) (br_f (by decide) (br_f (by decide) (br_f (by decide) ⟨fg_in0, ?_⟩)))))
    rw [h2']
    refine fg_come h3 (fun hc => ?_) (fun hc => ?_)
    · refine br_t rfl (br_t (by decide) (br_t (by decide) (H0 (fun z => ?_) _)))
      rcases z with z | z
      · exact absurd z (by decide)
      · exact hc z.2
    · refine br_f (by decide) ⟨fg_in0, ?_, nm_e (br_t (by decide) (br_t (by decide) (H1 (Or.inr ⟨rfl, hc⟩) _)))⟩
      rw [h2', hc]
      exact fg_in0
  have N : ¬ fg_ok k (a2 0) := fun z => by
    rcases z with z | z
    · exact e13 z
    · exact e8 z.1
  have H := H0 N
  by_cases eD : k = 0 ∨ k = 11 ∨ k = 14
  · rcases eD with rfl | rfl | rfl
    · exact br_f (by decide) (br_t (by decide) (br_f (by decide) (br_t (by decide) (br_t rfl (br_f (by decide) (fg_come1 (br_f (by decide) (br_t (by decide) (br_t rfl (H _))))))))))
    · exact br_f (by decide) (br_t (by decide) (br_f (by decide) (br_f (by decide) (br_t (by decide) (br_t rfl (br_f (by decide) (fg_come1 (br_f (by decide) (br_f (by decide) (br_t (by decide) (br_t rfl (H _))))))))))))
    · exact br_f (by decide) (br_t (by decide) (br_f (by decide) (br_f (by decide) (br_t (by decide) (br_t rfl (br_f (by decide) (fg_come1 (br_f (by decide) (br_f (by decide) (br_t (by decide) (br_t rfl (H _))))))))))))
  · have : k = 1 ∨ k = 2 ∨ k = 3 ∨ k = 4 ∨ k = 5 ∨ k = 6 ∨ k = 7 ∨ k = 9 ∨ k = 10 ∨ k = 12 := by omega
    rcases this with rfl | rfl | rfl | rfl | rfl | rfl | rfl | rfl | rfl | rfl <;> exact br_t (by decide) (H _)
/-- check over a program of one row -/
theorem fg_check1 {k : Nat} (hk : k ≤ 14) (h1 : a1 0 = nI k)
    (H0 : ¬ fg_ok k (a2 0) → ∀ b3 b4 b7, post (1, 1, 0, 1, st, fu, pc, d, a1, a2, b3, b4, a5, a6, b7, a8, a9))
    (H1 : fg_ok k (a2 0) → ∀ b3 b4 b5 b6 b7, b3 0 = 0 → post (1, 1, 1, 1, st, fu, pc, d, a1, a2, b3, b4, b5, b6, b7, a8, a9)) :
    wpX_check post (1, 0, g, l, st, fu, pc, d, a1, a2, a3, a4, a5, a6, a7, a8, a9) := by
  refine br_t rfl (br_f (by decide) (fg_36 (fun n b3 b4 h3 => br_t (by decide) (br_f (by decide) ?_))))
  have h3' : b3 (0 : Int32).toNatClampNeg = -1 := by rw [fg_cl0]; exact h3
  refine br_f (by decide) (br_t (by decide) ⟨fg_in0, br_f (by rw [h3']; decide) ⟨fg_in0, nm_e ⟨fg_in0, nm_e (nm_r (show (0 : Int32) + 1 = 1 by decide) ⟨2, ?_⟩)⟩⟩⟩)
  rw [fg_cl0]
  refine br_f (by decide) (br_f (by decide) ⟨fg_in0, ?_⟩)
  rw [fg_cl0, pk_us]
  refine fg_follow hk h1 pk_us (fun z b4 => ?_) (fun z b4 => ?_)
  · exact nm_r (show (0 : Int32) + 1 = 1 by decide) (br_t (by decide) (br_t rfl (H0 z _ _ _)))
  · exact nm_r (show (0 : Int32) + 1 = 1 by decide) (br_t (by decide) (br_f (by decide) (fg_makeBlocks (fun b5 b6 => H1 z _ _ _ _ _ pk_us))))
end
end
section
section
variable {sz ck g l st fu pc d : Int32} {a1 a2 a3 a4 a5 a6 a7 a8 a9 : Nat → Int32}
/-! ===== the law ===== -/
theorem fg_132 {post : Int32 → St0 → Prop} {mc ms kc ks : Nat} {x4 z : Int32} (H : post 1 ()) : wL_lawOf_132 post mc ms x4 z z kc ks sz ck g l 0 fu pc d a1 a2 a3 a4 a5 a6 a7 a8 a9 :=
  br_t rfl (br_f (by decide) (br_t rfl (br_t rfl (br_t rfl H))))
/-- sound and height, behind a check that found the program unsound -/
theorem fg_103n {post : Int32 → St0 → Prop} {mc ms kc ks : Nat} {x4 : Int32} (H : post 1 ())
    (C : ∀ P : St2 → Prop, (∀ l b3 b4 b7, P (sz, 1, 0, l, 0, fu, pc, d, a1, a2, b3, b4, a5, a6, b7, a8, a9)) → wpX_check P (sz, ck, g, l, 0, fu, pc, d, a1, a2, a3, a4, a5, a6, a7, a8, a9)) :
    wL_lawOf_103 post mc ms x4 0 kc ks sz ck g l 0 fu pc d a1 a2 a3 a4 a5 a6 a7 a8 a9 :=
  C _ (fun l b3 b4 b7 => ⟨rfl, br_t rfl (br_f (by decide) (br_t rfl (br_t rfl (fg_132 H))))⟩)
/-- the same, found sound -/
theorem fg_103y {post : Int32 → St0 → Prop} {mc ms kc ks : Nat} {x4 : Int32} (H : post 1 ())
    (C : ∀ P : St2 → Prop, (∀ l b3 b4 b5 b6 b7, b3 0 = 0 → P (1, 1, 1, l, 0, fu, pc, d, a1, a2, b3, b4, b5, b6, b7, a8, a9)) → wpX_check P (1, ck, g, l, 0, fu, pc, d, a1, a2, a3, a4, a5, a6, a7, a8, a9)) :
    wL_lawOf_103 post mc ms x4 1 kc ks 1 ck g l 0 fu pc d a1 a2 a3 a4 a5 a6 a7 a8 a9 := by
  refine C _ (fun l b3 b4 b5 b6 b7 h3 => ⟨rfl, br_t rfl (br_f (by decide) (br_f (by decide) (br_f (by decide) (br_f (by decide) ⟨fg_in0, ?_⟩))))⟩)
  have h3' : b3 (0 : Int32).toNatClampNeg = 0 := by rw [fg_cl0]; exact h3
  rw [h3']
  exact br_t (by decide) ⟨fg_in0, br_f (by decide) (fg_132 H)⟩
/-- a code out of range -/
theorem fg_57 {post : Int32 → St0 → Prop} {mc ms kc ks : Nat} {x0 x1 x4 : Int32} (H : post 1 ()) (hx : x0 < 0 ∨ 14 < x0) :
    wL_lawOf_57 post mc ms x0 x1 x4 kc ks 0 1 0 l 0 fu pc d a1 a2 a3 a4 a5 a6 a7 a8 a9 := by
  have n13 : ¬ x0 = 13 := fun e => by subst e; exact absurd hx (by decide)
  have n8 : ¬ x0 = 8 := fun e => by subst e; exact absurd hx (by decide)
  have K : wL_lawOf_77 post mc ms x0 x1 x4 (-1) (-1) kc ks 0 1 0 l 0 fu pc d a1 a2 a3 a4 a5 a6 a7 a8 a9 :=
    br_t rfl (br_f n13 (br_f n8 (fg_103n H (fun P h => br_f (by decide) (h _ _ _ _)))))
  rcases hx with hx | hx
  · exact br_t hx (br_t rfl K)
  · have h0 : ¬ x0 < 0 := fun z => absurd (Int32.lt_trans hx z) (by decide)
    exact br_f h0 (br_f (fun z => absurd (Int32.lt_of_lt_of_le hx z) (Int32.lt_irrefl)) (br_t rfl K))
/-- a code in range -/
theorem fg_58 {post : Int32 → St0 → Prop} {mc ms kc ks : Nat} {x1 x4 : Int32} {k : Nat} (H : post 1 ()) (hk : k ≤ 14) :
    wL_lawOf_58 post mc ms (nI k) x1 x4 1 kc ks 0 1 0 l 0 fu pc d a1 a2 a3 a4 a5 a6 a7 a8 a9 := by
  have i0 : ¬ nI k < 0 := nI_pos (by omega)
  have i14 : nI k ≤ 14 := nI_le (b := 14) hk (by decide)
  refine br_f i0 (br_t i14 (br_t (by decide) ⟨fg_in0, nm_e ⟨fg_in0, nm_e (nm_r (show (0 : Int32) + 1 = 1 by decide) (br_f (by decide) (br_t (by decide) ?_)))⟩⟩))
  rw [fg_cl0]
  have B1 : upd a1 0 (nI k) 0 = nI k := pk_us
  have B2 : upd a2 0 x1 0 = x1 := pk_us
  have Y : fg_ok k x1 → wL_lawOf_98 post mc ms (x4) kc ks 1 0 0 l 0 0 pc d (upd a1 0 (nI k)) (upd a2 0 x1) a3 a4 a5 a6 a7 a8 a9 :=
    fun z => fg_103y H (fun P h => fg_check1 hk B1 (fun n => absurd (B2.symm ▸ z) n) (fun _ b3 b4 b5 b6 b7 e => h _ _ _ _ _ _ e))
  have N : ¬ fg_ok k x1 → wL_lawOf_102 post mc ms (x4) kc ks 1 0 0 l 0 0 pc d (upd a1 0 (nI k)) (upd a2 0 x1) a3 a4 a5 a6 a7 a8 a9 :=
    fun z => fg_103n H (fun P h => fg_check1 hk B1 (fun _ b3 b4 b7 => h _ _ _ _) (fun y => absurd (B2 ▸ y) z))
  refine pk_eq k 13 (fun e => Y (Or.inl e)) (fun e => pk_eq k 8 (fun e8 => br_c (fun c0 => Y (Or.inr ⟨e8, c0⟩)) (fun c0 => N ?_)) (fun e8 => N ?_))
  · intro z
    rcases z with z | z
    · exact e z
    · exact c0 z.2
  · intro z
    rcases z with z | z
    · exact e z
    · exact e8 z.1
end
theorem fg_lawOf {post : Int32 → St0 → Prop} {p0 p1 p2 p3 p4 : Int32} (H : post 1 ()) : wpL_lawOf post 10 198 () p0 p1 p2 p3 p4 := by
  have i4 : vp_in (p2 &&& 3) 4 := pk_andIn p2 2 (by decide) (by decide)
  refine ⟨by decide, by decide, 9, 181, by decide, by decide, by decide, by decide, by decide, by decide, by decide, by decide, by decide, by decide, by decide, by decide, by decide, by decide, by decide, by decide, by decide, by decide, by decide, by decide, ?_⟩
  refine fg_check0 (fun b3 b4 => br_t rfl (br_t rfl ⟨i4, nm_e ⟨i4, nm_e (br_t rfl ⟨i4, br_t pk_us ?_⟩)⟩⟩))
  refine br_c (fun z => fg_57 H (Or.inl z)) (fun z => br_c (fun y => fg_57 H (Or.inr y)) (fun y => ?_))
  obtain ⟨k, hk, rfl⟩ := nI_of2 (M := 14) (n := 14) (by decide) z (Int32.not_lt.mp y)
  exact fg_58 H hk
theorem fg_cellAt {post : Int32 → Prop} {L : Nat} {xs : Nat → Int32} (hL : L ≤ 5) (k : Nat) (hk : k < 5) (H : ∀ r, post r) : wpL_cellAt post L xs () (nI k) :=
  pk_le L k (fun _ => H _) (fun h => ⟨pk_in k L h, H _⟩)
theorem i_vc (xs : Nat → Int32) (L : Nat) (hL : L ≤ 5) : wpL_law (fun r => r = 1) L xs :=
  fg_cellAt hL 0 (by omega) (fun _ => fg_cellAt hL 1 (by omega) (fun _ => fg_cellAt hL 2 (by omega) (fun _ => fg_cellAt hL 3 (by omega) (fun _ => fg_cellAt hL 4 (by omega) (fun _ => ⟨10, 198, by decide, by decide, fg_lawOf rfl⟩)))))
end
