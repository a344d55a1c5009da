section
section
variable {al wd nu lw fo : Int32} {a1 a2 a3 a4 a5 a6 a7 a8 a9 a10 a11 a12 : Nat → Int32}
/-- query 0's clauses: none, or one MUST of term t -/
def pq_Cl (a3 a4 a5 : Nat → Int32) (t : Nat) : Prop := a3 0 = 0 ∨ (a3 0 = 1 ∧ a4 0 = 0 ∧ a5 0 = nI t ∧ t < 24)
theorem pq_i12 : vp_in 0 12 := pk_in 0 12 (by omega)
theorem pq_i72 : vp_in 0 72 := pk_in 0 72 (by omega)
theorem pq_e0 {a : Nat → Int32} {x : Int32} (h : a 0 = x) : a (0 : Int32).toNatClampNeg = x := by rw [sb_cl0]; exact h
theorem pq_n0 {a : Nat → Int32} {x : Int32} (h : ¬ a 0 = x) : ¬ a (0 : Int32).toNatClampNeg = x := by rw [sb_cl0]; exact h
theorem pq_en0 {a : Nat → Int32} (h : a 0 = 0) : (0 : Int32) * 6 + a (0 : Int32).toNatClampNeg ≤ 0 := by rw [pq_e0 h]; decide
theorem pq_en1 {a : Nat → Int32} (h : a 0 = 1) : (0 : Int32) * 6 + a (0 : Int32).toNatClampNeg ≤ 1 := by rw [pq_e0 h]; decide
theorem pq_go1 {a : Nat → Int32} (h : a 0 = 1) : ¬ (0 : Int32) * 6 + a (0 : Int32).toNatClampNeg ≤ 0 := by rw [pq_e0 h]; decide
theorem pq_in5 {a : Nat → Int32} {t : Nat} (h : a 0 = nI t) (ht : t < 24) : vp_in (a (0 : Int32).toNatClampNeg) 24 := by rw [pq_e0 h]; exact vp_in_nI ht (by omega)
theorem pq_at5 {a : Nat → Int32} {t : Nat} (h : a 0 = nI t) (ht : t < 24) : (a (0 : Int32).toNatClampNeg).toNatClampNeg = t := by rw [pq_e0 h]; exact nI_clamp (by omega)
theorem pq_bit0 : (1 : Int32) <<< ((0 : Int32) &&& 31) = 1 := by decide
theorem pq_sure {post : Int32 → Prop} (h4 : a4 0 = 0) (hp : post 1) : wpX_sure post (al, wd, nu, lw, fo, a1, a2, a3, a4, a5, a6, a7, a8, a9, a10, a11, a12) 0 :=
  ⟨pq_i72, br_t (pq_e0 h4) hp⟩
theorem pq_count0 {post : St2 → Prop} {d : Int32} (h3 : a3 0 = 0) (hp : post (al, wd, nu, lw, fo, a1, a2, a3, a4, a5, a6, a7, a8, a9, a10, a11, a12)) : wpX_count post (al, wd, nu, lw, fo, a1, a2, a3, a4, a5, a6, a7, a8, a9, a10, a11, a12) 0 d := by
  intro x ex
  obtain rfl : x = 0 := ex.trans (by decide)
  exact ⟨1, pq_i12, br_t (pq_en0 h3) hp⟩
theorem pq_count1 {post : St2 → Prop} {d : Int32} {t : Nat} (h3 : a3 0 = 1) (h4 : a4 0 = 0) (h5 : a5 0 = nI t) (ht : t < 24) (hp : post (al, wd, nu, lw, fo, a1, a2, a3, a4, a5, a6, a7, upd a8 t (a8 t + d), a9, a10, a11, a12)) : wpX_count post (al, wd, nu, lw, fo, a1, a2, a3, a4, a5, a6, a7, a8, a9, a10, a11, a12) 0 d := by
  intro x ex
  obtain rfl : x = 0 := ex.trans (by decide)
  refine ⟨2, pq_i12, br_f (pq_go1 h3) (pq_sure h4 (br_f (by decide) ⟨pq_i72, pq_in5 h5 ht, pq_in5 h5 ht, ?_⟩))⟩
  intro b eb y ey
  obtain rfl : y = 1 := ey.trans (by decide)
  rw [pq_at5 h5 ht] at eb
  subst eb
  exact ⟨pq_i12, br_t (pq_en1 h3) hp⟩
theorem pq_count {post : St2 → Prop} {d : Int32} {t : Nat} (hc : pq_Cl a3 a4 a5 t) (hp : ∀ b, post (al, wd, nu, lw, fo, a1, a2, a3, a4, a5, a6, a7, b, a9, a10, a11, a12)) : wpX_count post (al, wd, nu, lw, fo, a1, a2, a3, a4, a5, a6, a7, a8, a9, a10, a11, a12) 0 d := by
  rcases hc with h3 | ⟨h3, h4, h5, ht⟩
  · exact pq_count0 h3 (hp _)
  · exact pq_count1 h3 h4 h5 ht (hp _)
theorem pq_rarest0 {post : Int32 → Prop} (h3 : a3 0 = 0) (hp : post (-1)) : wpX_rarest post (al, wd, nu, lw, fo, a1, a2, a3, a4, a5, a6, a7, a8, a9, a10, a11, a12) 0 := by
  intro x ex
  obtain rfl : x = 0 := ex.trans (by decide)
  exact ⟨1, pq_i12, br_t (pq_en0 h3) hp⟩
theorem pq_rarest1 {post : Int32 → Prop} {t : Nat} (h3 : a3 0 = 1) (h4 : a4 0 = 0) (h5 : a5 0 = nI t) (hp : post (nI t)) : wpX_rarest post (al, wd, nu, lw, fo, a1, a2, a3, a4, a5, a6, a7, a8, a9, a10, a11, a12) 0 := by
  intro x ex
  obtain rfl : x = 0 := ex.trans (by decide)
  refine ⟨2, pq_i12, br_f (pq_go1 h3) (pq_sure h4 (br_f (by decide) (br_t (by decide) ⟨pq_i72, ?_⟩)))⟩
  intro b eb y ey
  obtain rfl : y = 1 := ey.trans (by decide)
  rw [pq_e0 h5] at eb
  subst eb
  exact ⟨pq_i12, br_t (pq_en1 h3) hp⟩
/-- file: no clause, least 0 -/
theorem pq_file_a {post : St2 → Prop} (h3 : a3 0 = 0) (h2 : a2 0 = 0) (hp : post (al ||| 1, wd, nu, lw, fo, a1, a2, a3, a4, a5, a6, a7, a8, a9, a10, a11, a12)) : wpX_file post (al, wd, nu, lw, fo, a1, a2, a3, a4, a5, a6, a7, a8, a9, a10, a11, a12) 0 := by
  unfold wpX_file
  refine pq_count0 h3 (pq_rarest0 h3 (br_t (by decide) ⟨pq_i12, br_t (pq_e0 h2) ?_⟩))
  intro b eb
  rw [pq_bit0] at eb
  subst eb
  exact hp
/-- file: no clause, least not 0 -/
theorem pq_file_b {post : St2 → Prop} (h3 : a3 0 = 0) (h2 : ¬ a2 0 = 0) (hp : post (al, wd, nu, lw, fo, a1, a2, a3, a4, a5, a6, a7, a8, a9, a10, a11, a12)) : wpX_file post (al, wd, nu, lw, fo, a1, a2, a3, a4, a5, a6, a7, a8, a9, a10, a11, a12) 0 := by
  unfold wpX_file
  refine pq_count0 h3 (pq_rarest0 h3 (br_t (by decide) ⟨pq_i12, br_f (pq_n0 h2) ?_⟩))
  intro x ex
  obtain rfl : x = 0 := ex.trans (by decide)
  exact ⟨1, pq_i12, br_t (pq_en0 h3) hp⟩
/-- file: one MUST -/
theorem pq_file_c {post : St2 → Prop} {t : Nat} (h3 : a3 0 = 1) (h4 : a4 0 = 0) (h5 : a5 0 = nI t) (ht : t < 24) (hp : ∀ b, post (al, wd, nu, lw, fo, a1, a2, a3, a4, a5, a6, upd a7 t (a7 t ||| 1), b, a9, a10, a11, a12)) : wpX_file post (al, wd, nu, lw, fo, a1, a2, a3, a4, a5, a6, a7, a8, a9, a10, a11, a12) 0 := by
  unfold wpX_file
  refine pq_count1 h3 h4 h5 ht (pq_rarest1 h3 h4 h5 (br_f (nI_pos (by omega)) ⟨vp_in_nI ht (by omega), vp_in_nI ht (by omega), ?_⟩))
  intro b eb
  rw [nI_clamp (by omega), pq_bit0] at eb
  subst eb
  exact hp _
end
end
section
section
variable {al wd nu lw fo : Int32} {a1 a2 a3 a4 a5 a6 a7 a8 a9 a10 a11 a12 : Nat → Int32}
theorem pq_create_bad {post : Int32 → St2 → Prop} {x : Int32} (h : x < 0 ∨ ¬ x ≤ 6) (hp : post (-4) (al, wd, nu, lw, fo, a1, a2, a3, a4, a5, a6, a7, a8, a9, a10, a11, a12)) : wpX_create post (al, wd, nu, lw, fo, a1, a2, a3, a4, a5, a6, a7, a8, a9, a10, a11, a12) x := by
  refine ⟨fun _ => hp, fun h1 => ⟨fun h2 => ?_, fun _ => hp⟩⟩
  exact h.elim (fun z => absurd z h1) (fun z => absurd h2 z)
theorem pq_create_ok {post : Int32 → St2 → Prop} {x : Int32} (h1 : ¬ x < 0) (h2 : x ≤ 6) (hu : a1 0 = 0)
    (hp : ∀ b, (x = 0 → b = al ||| 1) → (¬ x = 0 → b = al) → post 0 (b, wd, nu, lw, fo, upd a1 0 1, upd a2 0 x, upd a3 0 0, a4, a5, a6, a7, a8, a9, a10, a11, a12)) : wpX_create post (al, wd, nu, lw, fo, a1, a2, a3, a4, a5, a6, a7, a8, a9, a10, a11, a12) x := by
  refine ⟨fun z => absurd z h1, fun _ => ⟨fun _ => ⟨1, ?_⟩, fun z => absurd h2 z⟩⟩
  refine ⟨fun z => absurd z (by decide), fun _ => ⟨pq_i12, br_t (pq_e0 hu) ?_⟩⟩
  refine ⟨fun z => absurd z (by decide), fun _ => ⟨pq_i12, ?_⟩⟩
  intro b1 e1
  refine ⟨pq_i12, ?_⟩
  intro b2 e2
  refine ⟨pq_i12, ?_⟩
  intro b3 e3
  rw [sb_cl0] at e1 e2 e3
  subst e1 e2 e3
  by_cases hx : x = 0
  · exact pq_file_a pk_us (by rw [pk_us]; exact hx) (hp _ (fun _ => rfl) (fun z => absurd hx z))
  · exact pq_file_b pk_us (by rw [pk_us]; exact hx) (hp _ (fun z => absurd z hx) (fun _ => rfl))
theorem pq_noQ {post : Int32 → Prop} {x : Int32} (hz : ∀ j, j < 12 → j ≠ 0 → a1 j = 0) (h0 : x = 0 → ¬ a1 0 = 0 → post 0) (h1 : ¬ (x = 0 ∧ ¬ a1 0 = 0) → post 1) : wpX_noQuery post (al, wd, nu, lw, fo, a1, a2, a3, a4, a5, a6, a7, a8, a9, a10, a11, a12) x := by
  refine ⟨fun z => h1 (fun e => ?_), fun z => ⟨fun z2 => h1 (fun e => ?_), fun z2 => ?_⟩⟩
  · rw [e.1] at z
    exact absurd z (by decide)
  · rw [e.1] at z2
    exact absurd z2 (by decide)
  · rcases pk_ix x (n := 12) (by omega) with g | g | ⟨j, hj, rfl⟩
    · exact absurd g z
    · exact absurd g z2
    · refine ⟨vp_in_nI hj (by omega), ?_⟩
      rw [nI_clamp (show j < 2 ^ 31 by omega)]
      by_cases e : j = 0
      · subst e
        exact ⟨fun q => h1 (fun e => e.2 q), fun q => h0 rfl q⟩
      · exact ⟨fun _ => h1 (fun q => e ((nI_eq (a := j) (b := 0) (by omega) (by omega)).mp q.1)), fun q => absurd (hz j hj e) q⟩
theorem pq_term_bad {post : Int32 → Prop} {x : Int32} (h : x < 0 ∨ nI 24 ≤ x) (hp : post 1) : wpX_badTerm post () x := by
  refine ⟨fun _ => hp, fun h1 => ⟨fun h2 => ?_, fun _ => hp⟩⟩
  rcases h with h | h
  · exact absurd h h1
  · exact absurd (Int32.lt_of_lt_of_le h2 h) (Int32.lt_irrefl)
theorem pq_term_ok {post : Int32 → Prop} {t : Nat} (h : t < 24) (hp : post 0) : wpX_badTerm post () (nI t) :=
  ⟨fun z => absurd z (nI_pos (by omega)), fun _ => ⟨fun _ => hp, fun z => absurd (nI_lt (b := 24) h (by omega)) z⟩⟩
theorem pq_unf16 {post : St2 → Prop} {t : Nat} (P : (Nat → Int32) → Prop) (hP : ∀ a k, P a → P (upd a k (a k &&& (((1 : Int32) <<< ((0 : Int32) &&& 31)) ^^^ (-1))))) (h0 : P a7) (hc : pq_Cl a3 a4 a5 t)
    (H : ∀ b7 b8, P b7 → post (al, wd, nu, lw, fo, a1, a2, a3, a4, a5, a6, b7, b8, a9, a10, a11, a12)) : ∃ n, wX_unfile_16 post 0 al wd nu lw fo n 0 a1 a2 a3 a4 a5 a6 a7 a8 a9 a10 a11 a12 :=
  pk_loop (fun n i s => wX_unfile_16 post 0 al wd nu lw fo n (nI i) a1 a2 a3 a4 a5 a6 s a8 a9 a10 a11 a12) (fun _ s => P s) 24 0 a7 (by omega) h0
    (fun n s h => pk_le 24 24 (fun _ => pq_count hc (fun b => H s b h)) (fun z => absurd z (by omega)))
    (fun n i s hi h hw => pk_le 24 i (fun z => absurd z (by omega)) (fun _ => ⟨pk_in i 24 hi, pk_in i 24 hi, nm_e (nm_r (nI_1 i) (hw _ (by rw [nI_clamp (by omega)]; exact hP s i h)))⟩))
theorem pq_unfile {post : St2 → Prop} {t : Nat} (P : (Nat → Int32) → Prop) (hP : ∀ a k, P a → P (upd a k (a k &&& (((1 : Int32) <<< ((0 : Int32) &&& 31)) ^^^ (-1))))) (h0 : P a7) (hc : pq_Cl a3 a4 a5 t)
    (H : ∀ b7 b8, P b7 → post (al &&& (-2), wd, nu, lw, fo, a1, a2, a3, a4, a5, a6, b7, b8, a9, a10, a11, a12)) : wpX_unfile post (al, wd, nu, lw, fo, a1, a2, a3, a4, a5, a6, a7, a8, a9, a10, a11, a12) 0 := by
  intro b eb
  obtain rfl : b = al &&& (-2) := eb.trans (by rw [show (((1 : Int32) <<< ((0 : Int32) &&& 31)) ^^^ (-1)) = -2 by decide])
  exact pq_unf16 P hP h0 hc H
theorem pq_must_no {post : Int32 → St2 → Prop} {x y : Int32} (hz : ∀ j, j < 12 → j ≠ 0 → a1 j = 0) (hn : ¬ (x = 0 ∧ ¬ a1 0 = 0)) (hp : post (-1) (al, wd, nu, lw, fo, a1, a2, a3, a4, a5, a6, a7, a8, a9, a10, a11, a12)) : wpX_must post (al, wd, nu, lw, fo, a1, a2, a3, a4, a5, a6, a7, a8, a9, a10, a11, a12) x y := by
  unfold wpX_must
  dsimp only
  unfold wpX_addTerm
  dsimp only
  exact pq_noQ hz (fun e h => absurd ⟨e, h⟩ hn) (fun _ => br_f (by decide) hp)
theorem pq_must_bad {post : Int32 → St2 → Prop} {y : Int32} (hz : ∀ j, j < 12 → j ≠ 0 → a1 j = 0) (hu : ¬ a1 0 = 0) (hy : y < 0 ∨ nI 24 ≤ y) (hp : post (-2) (al, wd, nu, lw, fo, a1, a2, a3, a4, a5, a6, a7, a8, a9, a10, a11, a12)) : wpX_must post (al, wd, nu, lw, fo, a1, a2, a3, a4, a5, a6, a7, a8, a9, a10, a11, a12) 0 y := by
  unfold wpX_must
  dsimp only
  unfold wpX_addTerm
  dsimp only
  exact pq_noQ hz (fun _ _ => br_t rfl (pq_term_bad hy (br_f (by decide) hp))) (fun z => absurd ⟨rfl, hu⟩ z)
theorem pq_add {post : Int32 → St2 → Prop} {t : Nat} (hal : al = 0 ∨ al = 1) (h3 : a3 0 = 0) (h7 : ∀ j, j < 24 → a7 j = 0) (ht : t < 24)
    (hp : ∀ b3 b4 b5 b6 b7 b8, b3 0 = 1 → b4 0 = 0 → b5 0 = nI t → (∀ j, j < 24 → b7 j = if j = t then 1 else 0) → post 1 (0, wd, nu, lw, fo, a1, a2, b3, b4, b5, b6, b7, b8, a9, a10, a11, a12)) : wpX_add post (al, wd, nu, lw, fo, a1, a2, a3, a4, a5, a6, a7, a8, a9, a10, a11, a12) 0 0 (nI t) 0 := by
  refine ⟨pq_i12, br_t (by rw [pq_e0 h3]; decide) ?_⟩
  refine pq_unfile (t := t) (fun a => ∀ j, j < 24 → a j = 0) ?_ h7 (Or.inl h3) ?_
  · intro a k h j hj
    by_cases e : j = k
    · subst e
      rw [pk_us, h j hj]
      decide
    · rw [pk_un e]
      exact h j hj
  · intro b7 b8 hb7
    have hal0 : al &&& (-2) = 0 := by rcases hal with h | h <;> rw [h] <;> decide
    rw [hal0]
    refine ⟨pq_i12, ?_⟩
    intro x ex
    obtain rfl : x = 0 := ex.trans (by rw [pq_e0 h3]; decide)
    refine ⟨pq_i72, ?_⟩
    intro b4 e4
    refine ⟨pq_i72, ?_⟩
    intro b5 e5
    refine ⟨pq_i72, ?_⟩
    intro b6 e6
    refine ⟨pq_i12, pq_i12, ?_⟩
    intro b3 e3
    rw [sb_cl0] at e3 e4 e5 e6
    have g3 : b3 0 = 1 := by rw [e3, pk_us, h3]; decide
    have g4 : b4 0 = 0 := by rw [e4, pk_us]
    have g5 : b5 0 = nI t := by rw [e5, pk_us]
    refine pq_file_c g3 g4 g5 ht (fun b => ⟨pq_i12, ?_⟩)
    rw [pq_e0 g3]
    refine hp b3 b4 b5 b6 _ b g3 g4 g5 (fun j hj => ?_)
    by_cases e : j = t
    · subst e
      rw [pk_us, hb7 j hj, if_pos rfl]
      decide
    · rw [pk_un e, hb7 j hj, if_neg e]
theorem pq_must_ok {post : Int32 → St2 → Prop} {t : Nat} (hz : ∀ j, j < 12 → j ≠ 0 → a1 j = 0) (hu : ¬ a1 0 = 0) (hal : al = 0 ∨ al = 1) (h3 : a3 0 = 0) (h7 : ∀ j, j < 24 → a7 j = 0) (ht : t < 24)
    (hp : ∀ b3 b4 b5 b6 b7 b8, b3 0 = 1 → b4 0 = 0 → b5 0 = nI t → (∀ j, j < 24 → b7 j = if j = t then 1 else 0) → post 1 (0, wd, nu, lw, fo, a1, a2, b3, b4, b5, b6, b7, b8, a9, a10, a11, a12)) : wpX_must post (al, wd, nu, lw, fo, a1, a2, a3, a4, a5, a6, a7, a8, a9, a10, a11, a12) 0 (nI t) := by
  unfold wpX_must
  dsimp only
  unfold wpX_addTerm
  dsimp only
  exact pq_noQ hz (fun _ _ => br_t rfl (pq_term_ok ht (br_t rfl (pq_add hal h3 h7 ht hp)))) (fun z => absurd ⟨rfl, hu⟩ z)
theorem pq_word_bad {post : Int32 → St2 → Prop} {y : Int32} (hy : y < 0 ∨ nI 24 ≤ y) (hp : post (-2) (al, wd, nu, lw, fo, a1, a2, a3, a4, a5, a6, a7, a8, a9, a10, a11, a12)) : wpX_word post (al, wd, nu, lw, fo, a1, a2, a3, a4, a5, a6, a7, a8, a9, a10, a11, a12) y := by
  unfold wpX_word
  dsimp only
  exact pq_term_bad hy (br_f (by decide) hp)
theorem pq_word_ok {post : Int32 → St2 → Prop} {v : Nat} (hv : v < 24) (h9 : ∀ j, j < 24 → a9 j = 0)
    (hp : ∀ b9, (∀ j, j < 24 → b9 j = if j = v then 1 else 0) → post 1 (al, 1, nu, nI v, fo, a1, a2, a3, a4, a5, a6, a7, a8, b9, a10, a11, a12)) : wpX_word post (al, 0, nu, -1, fo, a1, a2, a3, a4, a5, a6, a7, a8, a9, a10, a11, a12) (nI v) := by
  unfold wpX_word
  dsimp only
  refine pq_term_ok hv (br_t rfl (br_t (by decide) ⟨vp_in_nI hv (by omega), vp_in_nI hv (by omega), ?_⟩))
  intro b9 e9
  refine br_t (by decide) ?_
  intro f ef
  obtain rfl : f = 1 := ef.trans (by decide)
  rw [nI_clamp (by omega)] at e9
  refine hp b9 (fun j hj => ?_)
  rw [e9]
  by_cases e : j = v
  · subst e
    rw [pk_us, h9 j hj, if_pos rfl]
    decide
  · rw [pk_un e, h9 j hj, if_neg e]
end
end
section
section
variable {al wd nu lw fo : Int32} {a1 a2 a3 a4 a5 a6 a7 a8 a9 a10 a11 a12 : Nat → Int32}
/-- query 0 passes its check -/
def pq_good (a2 a3 a9 : Nat → Int32) (t : Nat) : Prop := ¬ 0 < a2 0 ∧ (a3 0 = 0 ∨ ¬ a9 t ≤ 0)
/-- query 0 is brought up by the terms below i, or always looked at -/
def pq_cd (al : Int32) (a7 a9 : Nat → Int32) (i : Nat) : Prop := al = 1 ∨ ∃ j, j < i ∧ ¬ a9 j ≤ 0 ∧ a7 j = 1
theorem pq_holds {post : Int32 → Prop} {t : Nat} (h4 : a4 0 = 0) (h5 : a5 0 = nI t) (ht : t < 24) (hb : a9 t ≤ 0 → post 0) (hg : ¬ a9 t ≤ 0 → post 1) : wpX_holds post (al, wd, nu, lw, fo, a1, a2, a3, a4, a5, a6, a7, a8, a9, a10, a11, a12) 0 := by
  refine ⟨pq_i72, ?_⟩
  intro k ek
  obtain rfl : k = 0 := ek.trans (pq_e0 h4)
  refine br_f (by decide) (br_f (by decide) (br_t rfl ⟨pq_i72, pq_in5 h5 ht, ?_⟩))
  rw [pq_at5 h5 ht]
  exact ⟨hb, hg⟩
theorem pq_check {post : Int32 → Prop} {t : Nat} (hc : pq_Cl a3 a4 a5 t) (hg : pq_good a2 a3 a9 t → post 1) (hb : ¬ pq_good a2 a3 a9 t → post 0) : wpX_check post (al, wd, nu, lw, fo, a1, a2, a3, a4, a5, a6, a7, a8, a9, a10, a11, a12) 0 := by
  intro x ex
  obtain rfl : x = 0 := ex.trans (by decide)
  rcases hc with h3 | ⟨h3, h4, h5, ht⟩
  · refine ⟨1, pq_i12, br_t (pq_en0 h3) ⟨pq_i12, ?_⟩⟩
    rw [sb_cl0]
    exact ⟨fun z => hb (fun g => g.1 z), fun z => hg ⟨z, Or.inl h3⟩⟩
  · refine ⟨2, pq_i12, br_f (pq_go1 h3) (pq_holds h4 h5 ht (fun z => ?_) (fun z => ?_))⟩
    · exact br_t rfl (hb (fun g => g.2.elim (fun q => absurd (q.symm.trans h3) (by decide)) (fun q => q z)))
    · refine br_f (by decide) ⟨pq_i72, br_f (by rw [pq_e0 h4]; decide) ?_⟩
      intro y ey
      obtain rfl : y = 1 := ey.trans (by decide)
      refine ⟨pq_i12, br_t (pq_en1 h3) ⟨pq_i12, ?_⟩⟩
      rw [sb_cl0]
      exact ⟨fun z2 => hb (fun g => g.1 z2), fun z2 => hg ⟨z2, Or.inr z⟩⟩
theorem pq_scoreOf {post : Int32 → Prop} {t : Nat} (hc : pq_Cl a3 a4 a5 t) (hp : ∀ s, (a3 0 = 0 → s = 0) → (a3 0 = 1 → s = a9 t) → post s) : wpX_scoreOf post (al, wd, nu, lw, fo, a1, a2, a3, a4, a5, a6, a7, a8, a9, a10, a11, a12) 0 := by
  intro x ex
  obtain rfl : x = 0 := ex.trans (by decide)
  rcases hc with h3 | ⟨h3, h4, h5, ht⟩
  · exact ⟨1, pq_i12, br_t (pq_en0 h3) (hp 0 (fun _ => rfl) (fun q => absurd (q.symm.trans h3) (by decide)))⟩
  · refine ⟨2, pq_i12, br_f (pq_go1 h3) ⟨pq_i72, br_t (pq_e0 h4) ⟨pq_i72, pq_in5 h5 ht, ?_⟩⟩⟩
    intro s es
    rw [pq_at5 h5 ht] at es
    refine ⟨pq_i72, br_f (by rw [pq_e0 h4]; decide) ?_⟩
    intro y ey
    obtain rfl : y = 1 := ey.trans (by decide)
    refine ⟨pq_i12, br_t (pq_en1 h3) (hp s (fun q => absurd (q.symm.trans h3) (by decide)) (fun _ => ?_))⟩
    rw [es]
    exact Int32.zero_add _
theorem pq_keep {post : St2 → Prop} {t : Nat} (hc : pq_Cl a3 a4 a5 t) (hp : ∀ b11 b12, (a3 0 = 0 → b12 0 = 0) → (a3 0 = 1 → b12 0 = a9 t) → post (al, wd, nu, lw, 1, a1, a2, a3, a4, a5, a6, a7, a8, a9, a10, b11, b12)) : wpX_keep post (al, wd, nu, lw, 0, a1, a2, a3, a4, a5, a6, a7, a8, a9, a10, a11, a12) 0 := by
  unfold wpX_keep
  refine pq_scoreOf hc (fun s g0 g1 => ⟨1, br_t (by decide) ⟨pq_i12, ?_⟩⟩)
  intro b11 e11
  refine ⟨pq_i12, ?_⟩
  intro b12 e12 f ef
  obtain rfl : f = 1 := ef.trans (by decide)
  rw [sb_cl0] at e12
  exact hp b11 b12 (fun q => by rw [e12, pk_us]; exact g0 q) (fun q => by rw [e12, pk_us]; exact g1 q)
theorem pq_b0 : ∀ i, i < 12 → ¬ (((0 : Int32) >>> (nI i &&& 31)) &&& 1) = 1 := by decide +kernel
theorem pq_b1 : ∀ i, i < 12 → 1 ≤ i → ¬ (((1 : Int32) >>> (nI i &&& 31)) &&& 1) = 1 := by decide +kernel
theorem pq_p44t {post : St2 → Prop} {c : Int32} (hc : c = 0 ∨ c = 1) (hp : post (al, wd, nu, lw, fo, a1, a2, a3, a4, a5, a6, a7, a8, a9, a10, a11, a12)) : ∃ n, wX_percolate_44 post c n 1 al wd nu lw fo a1 a2 a3 a4 a5 a6 a7 a8 a9 a10 a11 a12 :=
  pk_loop (σ := Unit) (fun n i _ => wX_percolate_44 post c n (nI i) al wd nu lw fo a1 a2 a3 a4 a5 a6 a7 a8 a9 a10 a11 a12) (fun i _ => 1 ≤ i) 12 1 () (by omega) (by omega)
    (fun n _ _ => pk_le 12 12 (fun _ => hp) (fun z => absurd z (by omega)))
    (fun n i _ hi h1 hw => pk_le 12 i (fun z => absurd z (by omega)) (fun _ => br_f (by rcases hc with h | h <;> rw [h]; exact pq_b0 i hi; exact pq_b1 i hi h1) (nm_r (nI_1 i) (hw () (by omega)))))
theorem pq_p44 {post : St2 → Prop} {c : Int32} {t : Nat} (hc : c = 0 ∨ c = 1) (hcl : pq_Cl a3 a4 a5 t)
    (h1 : c = 1 → pq_good a2 a3 a9 t → ∀ b11 b12, (a3 0 = 0 → b12 0 = 0) → (a3 0 = 1 → b12 0 = a9 t) → post (al, wd, nu, lw, 1, a1, a2, a3, a4, a5, a6, a7, a8, a9, a10, b11, b12))
    (h0 : ¬ (c = 1 ∧ pq_good a2 a3 a9 t) → post (al, wd, nu, lw, 0, a1, a2, a3, a4, a5, a6, a7, a8, a9, a10, a11, a12)) : ∃ n, wX_percolate_44 post c n 0 al wd nu lw 0 a1 a2 a3 a4 a5 a6 a7 a8 a9 a10 a11 a12 := by
  by_cases hg : c = 1 ∧ pq_good a2 a3 a9 t
  · have key : ∀ b11 b12, (a3 0 = 0 → b12 0 = 0) → (a3 0 = 1 → b12 0 = a9 t) → wX_percolate_44 post c 12 1 al wd nu lw 1 a1 a2 a3 a4 a5 a6 a7 a8 a9 a10 b11 b12 := fun b11 b12 g0 g1 =>
      loop_i (σ := Unit) (fun n i _ => wX_percolate_44 post c n (nI i) al wd nu lw 1 a1 a2 a3 a4 a5 a6 a7 a8 a9 a10 b11 b12) (fun i _ => 1 ≤ i) 12
        (fun n _ _ => pk_le 12 12 (fun _ => h1 hg.1 hg.2 b11 b12 g0 g1) (fun z => absurd z (by omega)))
        (fun n i _ hi h1 hw => pk_le 12 i (fun z => absurd z (by omega)) (fun _ => br_f (by rw [hg.1]; exact pq_b1 i hi h1) (nm_r (nI_1 i) (hw () (by omega)))))
        12 1 () (by omega) (by omega) (by omega)
    refine ⟨13, br_f (by decide) (br_t (by rw [hg.1]; decide) (pq_check hcl (fun _ => br_f (by decide) ?_) (fun z => absurd hg.2 z)))⟩
    refine pq_keep hcl (fun b11 b12 g0 g1 => ?_)
    intro y ey
    obtain rfl : y = 1 := ey.trans (by decide)
    exact key b11 b12 g0 g1
  · obtain ⟨n, hn⟩ := pq_p44t (fo := 0) hc (h0 hg)
    refine ⟨n + 1, br_f (by decide) (br_c (fun z => ?_) (fun z => nm_r (e' := 1) (by decide) hn))⟩
    have c1 : c = 1 := by
      rcases hc with h | h
      · rw [h] at z
        exact absurd z (by decide)
      · exact h
    exact pq_check hcl (fun g => absurd ⟨c1, g⟩ hg) (fun _ => br_t rfl (nm_r (e' := 1) (by decide) hn))
theorem pq_cd_no {i : Nat} (h : a9 i ≤ 0) : pq_cd al a7 a9 i ↔ pq_cd al a7 a9 (i + 1) := by
  constructor
  · rintro (z | ⟨j, hj, z⟩)
    · exact Or.inl z
    · exact Or.inr ⟨j, by omega, z⟩
  · rintro (z | ⟨j, hj, z, z2⟩)
    · exact Or.inl z
    · refine Or.inr ⟨j, ?_, z, z2⟩
      by_cases e : j = i
      · rw [e] at z
        exact absurd h z
      · omega
theorem pq_cd_yes {i : Nat} (h : ¬ a9 i ≤ 0) : (pq_cd al a7 a9 i ∨ a7 i = 1) ↔ pq_cd al a7 a9 (i + 1) := by
  constructor
  · rintro ((z | ⟨j, hj, z⟩) | z)
    · exact Or.inl z
    · exact Or.inr ⟨j, by omega, z⟩
    · exact Or.inr ⟨i, by omega, h, z⟩
  · rintro (z | ⟨j, hj, z, z2⟩)
    · exact Or.inl (Or.inl z)
    · by_cases e : j = i
      · rw [e] at z2
        exact Or.inr z2
      · exact Or.inl (Or.inr ⟨j, by omega, z, z2⟩)
theorem pq_or {s x : Int32} (hs : s = 0 ∨ s = 1) (hx : x = 0 ∨ x = 1) : (s ||| x = 0 ∨ s ||| x = 1) ∧ (s ||| x = 1 ↔ s = 1 ∨ x = 1) := by
  rcases hs with rfl | rfl <;> rcases hx with rfl | rfl <;> decide
theorem pq_p7 {post : St2 → Prop} (hal : al = 0 ∨ al = 1) (h7 : ∀ j, j < 24 → a7 j = 0 ∨ a7 j = 1)
    (H : ∀ c, (c = 0 ∨ c = 1) → (c = 1 ↔ pq_cd al a7 a9 24) → ∃ n, wX_percolate_44 post c n 0 al wd nu lw 0 a1 a2 a3 a4 a5 a6 a7 a8 a9 a10 a11 a12) : ∃ n, wX_percolate_7 post al wd nu lw fo a1 a2 a3 a4 a5 a6 a7 a8 a9 a10 a11 a12 n al 0 :=
  pk_loop (fun n i s => wX_percolate_7 post al wd nu lw fo a1 a2 a3 a4 a5 a6 a7 a8 a9 a10 a11 a12 n s (nI i)) (fun i s => (s = 0 ∨ s = 1) ∧ (s = 1 ↔ pq_cd al a7 a9 i)) 24 0 al (by omega)
    ⟨hal, fun z => Or.inl z, fun z => z.elim id (fun ⟨j, hj, _⟩ => absurd hj (by omega))⟩
    (fun n s h => pk_le 24 24 (fun _ => H s h.1 h.2) (fun z => absurd z (by omega)))
    (fun n i s hi h hw => pk_le 24 i (fun z => absurd z (by omega)) (fun _ => ⟨pk_in i 24 hi, by
      rw [nI_clamp (show i < 2 ^ 31 by omega)]
      refine ⟨fun z => nm_r (nI_1 i) (hw s ⟨h.1, h.2.trans (pq_cd_no z)⟩), fun z => ⟨pk_in i 24 hi, nm_e (nm_r (nI_1 i) (hw _ ?_))⟩⟩
      have o := pq_or h.1 (h7 i hi)
      exact ⟨o.1, o.2.trans ((or_congr_left h.2).trans (pq_cd_yes z))⟩⟩))
theorem pq_perc {post : St2 → Prop} {t : Nat} (hal : al = 0 ∨ al = 1) (h7 : ∀ j, j < 24 → a7 j = 0 ∨ a7 j = 1) (hcl : pq_Cl a3 a4 a5 t)
    (h1 : pq_cd al a7 a9 24 → pq_good a2 a3 a9 t → ∀ b11 b12, (a3 0 = 0 → b12 0 = 0) → (a3 0 = 1 → b12 0 = a9 t) → post (al, wd, nu, lw, 1, a1, a2, a3, a4, a5, a6, a7, a8, a9, a10, b11, b12))
    (h0 : ¬ (pq_cd al a7 a9 24 ∧ pq_good a2 a3 a9 t) → post (al, wd, nu, lw, 0, a1, a2, a3, a4, a5, a6, a7, a8, a9, a10, a11, a12)) : wpX_percolate post (al, wd, nu, lw, fo, a1, a2, a3, a4, a5, a6, a7, a8, a9, a10, a11, a12) :=
  pq_p7 hal h7 (fun c hc e => pq_p44 hc hcl (fun z => h1 (e.mp z)) (fun z => h0 (fun q => z ⟨e.mpr q.1, q.2⟩)))
theorem pq_score {post : Int32 → St2 → Prop} {t : Nat} {x : Int32} (hal : al = 0 ∨ al = 1) (h7 : ∀ j, j < 24 → a7 j = 0 ∨ a7 j = 1) (hcl : pq_Cl a3 a4 a5 t)
    (h1 : x = 0 → pq_cd al a7 a9 24 → pq_good a2 a3 a9 t → ∀ s f b11 b12, (a3 0 = 0 → s = 0) → (a3 0 = 1 → s = a9 t) → post s (al, wd, nu, lw, f, a1, a2, a3, a4, a5, a6, a7, a8, a9, a10, b11, b12))
    (h0 : ¬ (x = 0 ∧ pq_cd al a7 a9 24 ∧ pq_good a2 a3 a9 t) → ∀ f b11 b12, post 0 (al, wd, nu, lw, f, a1, a2, a3, a4, a5, a6, a7, a8, a9, a10, b11, b12)) : wpX_score post (al, wd, nu, lw, fo, a1, a2, a3, a4, a5, a6, a7, a8, a9, a10, a11, a12) x := by
  unfold wpX_score
  refine pq_perc hal h7 hcl (fun hd hg b11 b12 g0 g1 => ?_) (fun hn => ?_)
  · refine ⟨fun z => h0 (fun e => ?_) 1 b11 b12, fun z => ⟨fun z2 => ?_, fun z2 => h0 (fun e => ?_) 1 b11 b12⟩⟩
    · rw [e.1] at z
      exact absurd z (by decide)
    · rcases pk_ix x (n := 1) (by omega) with g | g | ⟨j, hj, rfl⟩
      · exact absurd g z
      · exact absurd (Int32.lt_of_lt_of_le z2 g) (Int32.lt_irrefl)
      · obtain rfl : j = 0 := by omega
        refine ⟨pq_i12, h1 rfl hd hg _ 1 b11 b12 (fun q => ?_) (fun q => ?_)⟩
        · rw [nI_clamp (by omega)]
          exact g0 q
        · rw [nI_clamp (by omega)]
          exact g1 q
    · rw [e.1] at z2
      exact absurd (by decide) z2
  · exact ⟨fun z => h0 (fun e => hn e.2) 0 a11 a12, fun z => ⟨fun z2 => absurd z2 z, fun _ => h0 (fun e => hn e.2) 0 a11 a12⟩⟩
theorem pq_matches {post : Int32 → Prop} {t : Nat} {x : Int32} (hz : ∀ j, j < 12 → j ≠ 0 → a1 j = 0) (hcl : pq_Cl a3 a4 a5 t)
    (h1 : x = 0 → ¬ a1 0 = 0 → pq_good a2 a3 a9 t → post 1) (h0 : ¬ (x = 0 ∧ ¬ a1 0 = 0 ∧ pq_good a2 a3 a9 t) → post 0) : wpX_matchesQuery post (al, wd, nu, lw, fo, a1, a2, a3, a4, a5, a6, a7, a8, a9, a10, a11, a12) x := by
  unfold wpX_matchesQuery
  refine pq_noQ hz (fun e hu => ?_) (fun hn => br_f (by decide) (h0 (fun q => hn ⟨q.1, q.2.1⟩)))
  subst e
  exact br_t rfl (pq_check hcl (fun g => ⟨rfl, h1 rfl hu g⟩) (fun g => ⟨rfl, h0 (fun q => g q.2.2)⟩))
theorem pq_rem26 {post : Int32 → St2 → Prop} (hu : ∀ j, j < 12 → a1 j = 0) (hp : post 0 (al, wd, nu, lw, fo, a1, a2, a3, a4, a5, a6, a7, a8, a9, a10, a11, a12)) : ∃ n, wX_remove_26 post al wd nu lw fo a1 a2 a3 a4 a5 a6 a7 a8 a9 a10 a11 a12 n 0 0 :=
  pk_loop (σ := Unit) (fun n i _ => wX_remove_26 post al wd nu lw fo a1 a2 a3 a4 a5 a6 a7 a8 a9 a10 a11 a12 n 0 (nI i)) (fun _ _ => True) 12 0 () (by omega) trivial
    (fun n _ _ => pk_le 12 12 (fun _ => hp) (fun z => absurd z (by omega)))
    (fun n i _ hi _ hw => pk_le 12 i (fun z => absurd z (by omega)) (fun _ => ⟨pk_in i 12 hi, br_t (by rw [nI_clamp (by omega)]; exact hu i hi) (nm_r (nI_1 i) (hw () trivial))⟩))
theorem pq_remove {post : Int32 → St2 → Prop} {t : Nat} {x : Int32} (hz : ∀ j, j < 12 → j ≠ 0 → a1 j = 0) (hcl : pq_Cl a3 a4 a5 t)
    (h1 : x = 0 → ¬ a1 0 = 0 → ∀ b b1 b7 b8, post 0 (b, wd, nu, lw, fo, b1, a2, a3, a4, a5, a6, b7, b8, a9, a10, a11, a12)) (h0 : ¬ (x = 0 ∧ ¬ a1 0 = 0) → post (-1) (al, wd, nu, lw, fo, a1, a2, a3, a4, a5, a6, a7, a8, a9, a10, a11, a12)) : wpX_remove post (al, wd, nu, lw, fo, a1, a2, a3, a4, a5, a6, a7, a8, a9, a10, a11, a12) x := by
  unfold wpX_remove
  refine pq_noQ hz (fun e hu => ?_) (fun hn => br_f (by decide) (h0 hn))
  subst e
  refine br_t rfl (pq_unfile (fun _ => True) (fun _ _ _ => trivial) trivial hcl (fun b7 b8 _ => ⟨pq_i12, ?_⟩))
  intro b1 e1
  rw [sb_cl0] at e1
  refine pq_rem26 (fun j hj => ?_) (h1 rfl hu _ b1 b7 b8)
  rw [e1]
  by_cases e : j = 0
  · rw [e, pk_us]
  · rw [pk_un e]
    exact hz j hj e
end
end
section
section
variable {al wd nu lw fo : Int32} {a1 a2 a3 a4 a5 a6 a7 a8 a9 a10 a11 a12 : Nat → Int32} {post : Int32 → St0 → Prop} {mc ms kc ks : Nat} {x0 x1 x2 x3 x4 x6 x7 x8 x9 z0 z1 : Int32}
theorem pq_247 {t : Nat} (hp : post 1 ()) (hz : ∀ j, j < 12 → j ≠ 0 → a1 j = 0) (hM : (x6 = 0 ∧ a1 0 = 0) ∨ (x6 = 1 ∧ a1 0 = 1)) (hcl : pq_Cl a3 a4 a5 t) (e : z1 = z0) : wL_lawOf_247 post mc ms x4 x6 z0 z1 kc ks al wd nu lw fo a1 a2 a3 a4 a5 a6 a7 a8 a9 a10 a11 a12 := by
  refine br_t e (pq_remove hz hcl (fun e4 hu b b1 b7 b8 => ?_) (fun hn => ?_))
  · have h6 : ¬ x6 = 0 := by
      rcases hM with h | h
      · exact absurd h.2 hu
      · rw [h.1]
        decide
    exact br_f h6 (br_t e4 (br_t rfl hp))
  · refine br_c (fun _ => br_t rfl hp) (fun h6 => br_c (fun e4 => ?_) (fun _ => br_t rfl hp))
    refine absurd ⟨e4, ?_⟩ hn
    rcases hM with h | h
    · exact absurd h.1 h6
    · rw [h.2]
      decide
/-- the score's check: x10 says whether query 0 matches -/
theorem pq_210 {t : Nat} {x10 : Int32} (hp : post 1 ()) (hz : ∀ j, j < 12 → j ≠ 0 → a1 j = 0) (hM : (x6 = 0 ∧ a1 0 = 0) ∨ (x6 = 1 ∧ a1 0 = 1)) (hcl : pq_Cl a3 a4 a5 t)
    (hal : al = 0 ∨ al = 1) (h7 : ∀ j, j < 24 → a7 j = 0 ∨ a7 j = 1)
    (hy : ¬ x10 = 0 → pq_cd al a7 a9 24 ∧ pq_good a2 a3 a9 t) (hn : x10 = 0 → ¬ (pq_cd al a7 a9 24 ∧ pq_good a2 a3 a9 t))
    (hs0 : x7 = 0 ∨ x8 = 0 → a3 0 = 0) (hs1 : ¬ x7 = 0 → ¬ x8 = 0 → a3 0 = 1 ∧ (¬ x10 = 0 → a9 t = 1)) (e : z1 = z0) : wL_lawOf_210 post mc ms x4 x6 x7 x8 x10 z0 z1 kc ks al wd nu lw fo a1 a2 a3 a4 a5 a6 a7 a8 a9 a10 a11 a12 := by
  refine br_t e (pq_score hal h7 hcl (fun e4 hd hg s f b11 b12 g0 g1 => ?_) (fun hq f b11 b12 => ?_))
  · have h10 : ¬ x10 = 0 := fun q => hn q ⟨hd, hg⟩
    refine br_t e4 (br_f h10 (br_c (fun q7 => ?_) (fun q7 => br_c (fun q8 => ?_) (fun q8 => ?_))))
    · exact pq_247 hp hz hM hcl (g0 (hs0 (Or.inl q7)))
    · exact pq_247 hp hz hM hcl (g0 (hs0 (Or.inr q8)))
    · exact pq_247 hp hz hM hcl ((g1 (hs1 q7 q8).1).trans ((hs1 q7 q8).2 h10))
  · refine br_c (fun e4 => br_c (fun q => pq_247 hp hz hM hcl rfl) (fun q => absurd ⟨e4, hy q⟩ hq)) (fun _ => pq_247 hp hz hM hcl rfl)
theorem pq_186 {t : Nat} (hp : post 1 ()) (hz : ∀ j, j < 12 → j ≠ 0 → a1 j = 0) (hM : (x6 = 0 ∧ a1 0 = 0) ∨ (x6 = 1 ∧ a1 0 = 1)) (hcl : pq_Cl a3 a4 a5 t)
    (hal : al = 0 ∨ al = 1) (h7 : ∀ j, j < 24 → a7 j = 0 ∨ a7 j = 1)
    (hy : ¬ z0 = 0 → ¬ a1 0 = 0 ∧ pq_cd al a7 a9 24 ∧ pq_good a2 a3 a9 t) (hn : z0 = 0 → ¬ (pq_cd al a7 a9 24 ∧ pq_good a2 a3 a9 t)) (hn' : z0 = 0 → ¬ (¬ a1 0 = 0 ∧ pq_good a2 a3 a9 t))
    (hs0 : x7 = 0 ∨ x8 = 0 → a3 0 = 0) (hs1 : ¬ x7 = 0 → ¬ x8 = 0 → a3 0 = 1 ∧ (¬ z0 = 0 → a9 t = 1)) : wL_lawOf_186 post mc ms x4 x6 x7 x8 z0 kc ks al wd nu lw fo a1 a2 a3 a4 a5 a6 a7 a8 a9 a10 a11 a12 := by
  have K : ∀ z : Int32, wL_lawOf_210 post mc ms x4 x6 x7 x8 z0 z z kc ks al wd nu lw fo a1 a2 a3 a4 a5 a6 a7 a8 a9 a10 a11 a12 := fun z => pq_210 hp hz hM hcl hal h7 (fun q => (hy q).2) hn hs0 hs1 rfl
  refine pq_matches hz hcl (fun e4 hu hg => ?_) (fun hq => ?_)
  · exact br_t e4 (br_c (fun q => absurd ⟨hu, hg⟩ (hn' q)) (fun _ => K 1))
  · exact br_c (fun e4 => br_c (fun _ => K 0) (fun q => absurd ⟨e4, (hy q).1, (hy q).2.2⟩ hq)) (fun _ => K 0)
/-- behind must: what the state holds, by the flags made (x6), there (x7), term (x8) -/
def pq_K (x0 x2 x6 x7 x8 : Int32) (t : Nat) (al : Int32) (a1 a2 a3 a4 a5 a7 : Nat → Int32) : Prop :=
  (∀ j, j < 12 → j ≠ 0 → a1 j = 0) ∧
  ((x6 = 0 ∧ x7 = 0 ∧ a1 0 = 0 ∧ a3 0 = 0 ∧ al = 0 ∧ (∀ j, j < 24 → a7 j = 0)) ∨
   (x6 = 1 ∧ (x7 = 0 ∨ x8 = 0) ∧ a1 0 = 1 ∧ a2 0 = x0 ∧ ¬ x0 < 0 ∧ a3 0 = 0 ∧ (∀ j, j < 24 → a7 j = 0) ∧ (x0 = 0 → al = 1) ∧ (¬ x0 = 0 → al = 0)) ∨
   (x6 = 1 ∧ x7 = 1 ∧ x8 = 1 ∧ a1 0 = 1 ∧ a2 0 = x0 ∧ ¬ x0 < 0 ∧ a3 0 = 1 ∧ a4 0 = 0 ∧ a5 0 = nI t ∧ t < 24 ∧ x2 = nI t ∧ al = 0 ∧ (∀ j, j < 24 → a7 j = if j = t then 1 else 0)))
/-- behind word: the counts, by the flag word (x9) -/
def pq_W (x3 x9 : Int32) (a9 : Nat → Int32) : Prop :=
  (x9 = 0 ∧ ∀ j, j < 24 → a9 j = 0) ∨ (x9 = 1 ∧ ∃ v, v < 24 ∧ x3 = nI v ∧ ∀ j, j < 24 → a9 j = if j = v then 1 else 0)
theorem pq_pos {x : Int32} (h1 : ¬ x < 0) (h2 : ¬ 0 < x) : x = 0 := by
  rcases pk_ix x (n := 1) (by omega) with g | g | ⟨j, hj, rfl⟩
  · exact absurd g h1
  · exact absurd (Int32.lt_of_lt_of_le (by decide) g) h2
  · obtain rfl : j = 0 := by omega
    rfl
theorem pq_147 {t : Nat} (hp : post 1 ()) (hK : pq_K x0 x2 x6 x7 x8 t al a1 a2 a3 a4 a5 a7) (hW : pq_W x3 x9 a9) (e : z1 = z0) : wL_lawOf_147 post mc ms x0 x2 x3 x4 x6 x7 x8 x9 z0 z1 kc ks al wd nu lw fo a1 a2 a3 a4 a5 a6 a7 a8 a9 a10 a11 a12 := by
  obtain ⟨hz, hK⟩ := hK
  refine br_t e ?_
  rcases hK with ⟨e6, e7, h1, h3, hal, h7⟩ | ⟨e6, e78, h1, h2, hx, h3, h7, ha0, ha1⟩ | ⟨e6, e7, e8, h1, h2, hx, h3, h4, h5, ht, e2, hal, h7⟩
  · have nd : ¬ (pq_cd al a7 a9 24 ∧ pq_good a2 a3 a9 t) := by
      rintro ⟨q | ⟨j, hj, _, q⟩, _⟩
      · rw [hal] at q
        exact absurd q (by decide)
      · rw [h7 j hj] at q
        exact absurd q (by decide)
    exact br_t e6 (pq_186 hp hz (Or.inl ⟨e6, h1⟩) (Or.inl h3) (Or.inl hal) (fun j hj => Or.inl (h7 j hj)) (fun q => absurd rfl q) (fun _ => nd) (fun _ q => q.1 h1) (fun _ => h3) (fun q _ => absurd e7 q))
  · have u1 : ¬ a1 0 = 0 := by rw [h1]; decide
    refine br_f (by rw [e6]; decide) (br_c (fun q0 => ?_) (fun q0 => ?_))
    · have G : pq_good a2 a3 a9 t := ⟨by rw [h2, q0]; decide, Or.inl h3⟩
      have D : pq_cd al a7 a9 24 := Or.inl (ha0 q0)
      have M : wL_lawOf_181 post mc ms x4 x6 x7 x8 kc ks al wd nu lw fo a1 a2 a3 a4 a5 a6 a7 a8 a9 a10 a11 a12 := pq_186 hp hz (Or.inr ⟨e6, h1⟩) (Or.inl h3) (Or.inr (ha0 q0)) (fun j hj => Or.inl (h7 j hj)) (fun _ => ⟨u1, D, G⟩) (fun q => absurd q (by decide)) (fun q => absurd q (by decide)) (fun _ => h3)
        (fun q7 q8 => e78.elim (fun z => absurd z q7) (fun z => absurd z q8))
      exact br_c (fun _ => M) (fun q7 => br_t (e78.elim (fun z => absurd z q7) id) M)
    · have G : ¬ pq_good a2 a3 a9 t := fun g => q0 (pq_pos hx (by rw [← h2]; exact g.1))
      exact pq_186 hp hz (Or.inr ⟨e6, h1⟩) (Or.inl h3) (Or.inl (ha1 q0)) (fun j hj => Or.inl (h7 j hj)) (fun q => absurd rfl q) (fun _ q => G q.2) (fun _ q => G q.2) (fun _ => h3)
        (fun q7 q8 => e78.elim (fun z => absurd z q7) (fun z => absurd z q8))
  · have u1 : ¬ a1 0 = 0 := by rw [h1]; decide
    have n7 : ¬ x7 = 0 := by rw [e7]; decide
    have n8 : ¬ x8 = 0 := by rw [e8]; decide
    have h7' : ∀ j, j < 24 → a7 j = 0 ∨ a7 j = 1 := fun j hj => by
      rw [h7 j hj]
      by_cases q : j = t
      · rw [if_pos q]
        exact Or.inr rfl
      · rw [if_neg q]
        exact Or.inl rfl
    have N : ¬ pq_good a2 a3 a9 t → wL_lawOf_185 post mc ms x4 x6 x7 x8 kc ks al wd nu lw fo a1 a2 a3 a4 a5 a6 a7 a8 a9 a10 a11 a12 := fun G =>
      pq_186 hp hz (Or.inr ⟨e6, h1⟩) (Or.inr ⟨h3, h4, h5, ht⟩) (Or.inl hal) h7' (fun q => absurd rfl q) (fun _ q => G q.2) (fun _ q => G q.2)
        (fun q => q.elim (fun z => absurd z n7) (fun z => absurd z n8)) (fun _ _ => ⟨h3, fun q => absurd rfl q⟩)
    have nb : a9 t ≤ 0 → ¬ pq_good a2 a3 a9 t := fun q g => g.2.elim (fun z => absurd (z.symm.trans h3) (by decide)) (fun z => z q)
    refine br_f (by rw [e6]; decide) (br_c (fun q0 => ?_) (fun q0 => ?_))
    · refine br_f n7 (br_f n8 ?_)
      rcases hW with ⟨e9, w0⟩ | ⟨e9, v, hv, e3, w1⟩
      · exact br_t e9 (N (nb (by rw [w0 t ht]; decide)))
      · refine br_f (by rw [e9]; decide) (br_c (fun q => ?_) (fun q => ?_))
        · have tv : v = t := (nI_eq (by omega) (by omega)).mp (e3.symm.trans (q.trans e2))
          have c1 : a9 t = 1 := by rw [w1 t ht, if_pos tv.symm]
          have cp : ¬ a9 t ≤ 0 := by rw [c1]; decide
          exact pq_186 hp hz (Or.inr ⟨e6, h1⟩) (Or.inr ⟨h3, h4, h5, ht⟩) (Or.inl hal) h7' (fun _ => ⟨u1, Or.inr ⟨t, ht, cp, by rw [h7 t ht, if_pos rfl]⟩, by rw [h2, q0]; decide, Or.inr cp⟩) (fun q => absurd q (by decide)) (fun q => absurd q (by decide))
            (fun q => q.elim (fun z => absurd z n7) (fun z => absurd z n8)) (fun _ _ => ⟨h3, fun _ => c1⟩)
        · have tv : ¬ t = v := fun z => q (by rw [e3, e2, z])
          exact N (nb (by rw [w1 t ht, if_neg tv]; decide))
    · exact N (fun g => q0 (pq_pos hx (by rw [← h2]; exact g.1)))
end
end
section
section
variable {al wd nu lw fo : Int32} {a1 a2 a3 a4 a5 a6 a7 a8 a9 a10 a11 a12 : Nat → Int32} {post : Int32 → St0 → Prop} {mc ms kc ks : Nat} {x0 x1 x2 x3 x4 x6 x7 x8 x9 z0 z1 : Int32}
theorem pq_gt23 {x : Int32} (h : nI 24 ≤ x) : 23 < x := Int32.lt_of_lt_of_le (by decide) h
theorem pq_108 {t : Nat} (hp : post 1 ()) (hK : pq_K x0 x2 x6 x7 x8 t al a1 a2 a3 a4 a5 a7) (h9 : ∀ j, j < 24 → a9 j = 0) (e : z1 = z0) : wL_lawOf_108 post mc ms x0 x2 x3 x4 x6 x7 x8 z0 z1 kc ks al 0 nu (-1) fo a1 a2 a3 a4 a5 a6 a7 a8 a9 a10 a11 a12 := by
  refine br_t e ?_
  have B : x3 < 0 ∨ nI 24 ≤ x3 → wL_lawOf_127 post mc ms x0 x2 x3 x4 x6 x7 x8 kc ks al 0 nu (-1) fo a1 a2 a3 a4 a5 a6 a7 a8 a9 a10 a11 a12 := fun h =>
    pq_word_bad h (br_t rfl (pq_147 hp hK (Or.inl ⟨rfl, h9⟩) rfl))
  rcases pk_ix x3 (n := 24) (by omega) with h | h | ⟨v, hv, rfl⟩
  · exact br_t h (B (Or.inl h))
  · exact br_c (fun _ => B (Or.inr h)) (fun _ => br_t (pq_gt23 h) (B (Or.inr h)))
  · exact br_f (nI_pos (by omega)) (br_f (nI_nlt (a := 23) (b := v) (by omega) (by omega)) (pq_word_ok hv h9 (fun b9 hb => br_f (by decide) (pq_147 hp hK (Or.inr ⟨rfl, v, hv, rfl, hb⟩) rfl))))
/-- behind create -/
def pq_C (x0 x6 : Int32) (al : Int32) (a1 a2 a3 a7 a9 : Nat → Int32) : Prop :=
  (∀ j, j < 12 → j ≠ 0 → a1 j = 0) ∧ (∀ j, j < 24 → a7 j = 0) ∧ (∀ j, j < 24 → a9 j = 0) ∧ a3 0 = 0 ∧
  ((x6 = 0 ∧ a1 0 = 0 ∧ al = 0) ∨ (x6 = 1 ∧ a1 0 = 1 ∧ a2 0 = x0 ∧ ¬ x0 < 0 ∧ (x0 = 0 → al = 1) ∧ (¬ x0 = 0 → al = 0)))
/-- not there: must answers -1 -/
theorem pq_79n (hp : post 1 ()) (hC : pq_C x0 x6 al a1 a2 a3 a7 a9) (hn : ¬ (x1 = 0 ∧ ¬ a1 0 = 0)) : wL_lawOf_79 post mc ms x0 x1 x2 x3 x4 x6 0 z0 kc ks al 0 nu (-1) fo a1 a2 a3 a4 a5 a6 a7 a8 a9 a10 a11 a12 := by
  obtain ⟨hz, h7, h9, h3, hC⟩ := hC
  refine pq_must_no hz hn (br_t rfl (pq_108 (t := 0) hp ⟨hz, ?_⟩ h9 rfl))
  rcases hC with ⟨e6, h1, hal⟩ | ⟨e6, h1, h2, hx, ha0, ha1⟩
  · exact Or.inl ⟨e6, rfl, h1, h3, hal, h7⟩
  · exact Or.inr (Or.inl ⟨e6, Or.inl rfl, h1, h2, hx, h3, h7, ha0, ha1⟩)
theorem pq_62n (hp : post 1 ()) (hC : pq_C x0 x6 al a1 a2 a3 a7 a9) (hn : ¬ (x1 = 0 ∧ ¬ a1 0 = 0)) : wL_lawOf_62 post mc ms x0 x1 x2 x3 x4 x6 0 kc ks al 0 nu (-1) fo a1 a2 a3 a4 a5 a6 a7 a8 a9 a10 a11 a12 :=
  ⟨fun _ => pq_79n hp hC hn, fun _ => ⟨fun _ => pq_79n hp hC hn, fun _ => pq_79n hp hC hn⟩⟩
/-- there -/
theorem pq_62y (hp : post 1 ()) (hz : ∀ j, j < 12 → j ≠ 0 → a1 j = 0) (h7 : ∀ j, j < 24 → a7 j = 0) (h9 : ∀ j, j < 24 → a9 j = 0) (h3 : a3 0 = 0)
    (h1 : a1 0 = 1) (h2 : a2 0 = x0) (hx : ¬ x0 < 0) (ha0 : x0 = 0 → al = 1) (ha1 : ¬ x0 = 0 → al = 0) : wL_lawOf_62 post mc ms x0 0 x2 x3 x4 1 1 kc ks al 0 nu (-1) fo a1 a2 a3 a4 a5 a6 a7 a8 a9 a10 a11 a12 := by
  have u1 : ¬ a1 0 = 0 := by rw [h1]; decide
  have hal : al = 0 ∨ al = 1 := by
    by_cases q : x0 = 0
    · exact Or.inr (ha0 q)
    · exact Or.inl (ha1 q)
  have B : x2 < 0 ∨ nI 24 ≤ x2 → wL_lawOf_78 post mc ms x0 0 x2 x3 x4 1 1 kc ks al 0 nu (-1) fo a1 a2 a3 a4 a5 a6 a7 a8 a9 a10 a11 a12 := fun h => by
    unfold wL_lawOf_78 wL_lawOf_79
    exact pq_must_bad hz u1 h (br_f (by decide) (br_t rfl (pq_108 (t := 0) hp ⟨hz, Or.inr (Or.inl ⟨rfl, Or.inr rfl, h1, h2, hx, h3, h7, ha0, ha1⟩)⟩ h9 rfl)))
  rcases pk_ix x2 (n := 24) (by omega) with h | h | ⟨t, ht, rfl⟩
  · exact br_t h (B (Or.inl h))
  · exact br_c (fun _ => B (Or.inr h)) (fun _ => br_t (pq_gt23 h) (B (Or.inr h)))
  · refine br_f (nI_pos (by omega)) (br_f (nI_nlt (a := 23) (b := t) (by omega) (by omega)) (pq_must_ok hz u1 hal h3 h7 ht (fun b3 b4 b5 b6 b7 b8 g3 g4 g5 g7 => ?_)))
    exact br_f (by decide) (br_f (by decide) (pq_108 hp ⟨hz, Or.inr (Or.inr ⟨rfl, rfl, rfl, h1, h2, hx, g3, g4, g5, ht, rfl, rfl, g7⟩)⟩ h9 rfl))
theorem pq_43 (hp : post 1 ()) (hC : pq_C x0 x6 al a1 a2 a3 a7 a9) (e : z1 = z0) : wL_lawOf_43 post mc ms x0 x1 x2 x3 x4 x6 z0 z1 kc ks al 0 nu (-1) fo a1 a2 a3 a4 a5 a6 a7 a8 a9 a10 a11 a12 := by
  refine br_t e ?_
  have hC' := hC
  obtain ⟨hz, h7, h9, h3, hD⟩ := hC
  rcases hD with ⟨e6, h1, hal⟩ | ⟨e6, h1, h2, hx, ha0, ha1⟩
  · exact br_t e6 (pq_62n hp hC' (fun q => q.2 h1))
  · subst e6
    refine br_f (by decide) (br_c (fun q => ?_) (fun q => pq_62n hp hC' (fun g => q g.1)))
    subst q
    exact pq_62y hp hz h7 h9 h3 h1 h2 hx ha0 ha1
theorem pq_lawOf (hp : post 1 ()) (hm : 13 ≤ mc) (hs : 389 ≤ ms) : wpL_lawOf post mc ms () x0 x1 x2 x3 x4 := by
  refine ⟨by omega, by omega, 12, 372, by omega, by omega, ?_⟩
  refine ⟨by omega, by omega, by omega, by omega, by omega, by omega, by omega, by omega, by omega, by omega, by omega, by omega, by omega, by omega, by omega, by omega, by omega, by omega, by omega, by omega, by omega, by omega, by omega, by omega, ?_⟩
  have bad : x0 < 0 ∨ ¬ x0 ≤ 6 → wL_lawOf_23 post mc ms x0 x1 x2 x3 x4 (1 + 12) (17 + 372) 0 0 0 (-1) 0 (fun _ => 0) (fun _ => 0) (fun _ => 0) (fun _ => 0) (fun _ => 0) (fun _ => 0) (fun _ => 0) (fun _ => 0) (fun _ => 0) (fun _ => 0) (fun _ => 0) (fun _ => 0) := fun h => by
    unfold wL_lawOf_23 wL_lawOf_24
    exact pq_create_bad h (br_t rfl (pq_43 hp ⟨fun _ _ _ => rfl, fun _ _ => rfl, fun _ _ => rfl, rfl, Or.inl ⟨rfl, rfl, rfl⟩⟩ rfl))
  refine br_c (fun h => bad (Or.inl h)) (fun h1 => br_c (fun h => bad (Or.inr (fun q => ?_))) (fun h2 => ?_))
  · exact absurd (Int32.lt_of_lt_of_le h q) (Int32.lt_irrefl)
  · have h2' : x0 ≤ 6 := Int32.not_lt.mp h2
    refine pq_create_ok h1 h2' rfl (fun b hb0 hb1 => br_f (by decide) (pq_43 hp ⟨fun j _ hj => ?_, fun _ _ => rfl, fun _ _ => rfl, pk_us, Or.inr ⟨rfl, pk_us, pk_us, h1, fun q => ?_, fun q => hb1 q⟩⟩ rfl))
    · rw [pk_un hj]
    · rw [hb0 q]
      decide
theorem pq_cell {post : Int32 → Prop} {L : Nat} {xs : Nat → Int32} {k : Nat} (hk : k < 5) (hL : L ≤ 5) (h : ∀ r, post r) : wpL_cellAt post L xs () (nI k) := by
  refine ⟨fun _ => h 0, fun z => ⟨?_, h _⟩⟩
  by_cases q : k < L
  · exact vp_in_nI q (by omega)
  · exact absurd (nI_le (a := L) (b := k) (by omega) (by omega)) z
end
theorem i_vc (xs : Nat → Int32) (L : Nat) (hL : L ≤ 5) : wpL_law (fun r => r = 1) L xs := by
  unfold wpL_law
  exact pq_cell (k := 0) (by omega) hL (fun r1 => pq_cell (k := 1) (by omega) hL (fun r2 => pq_cell (k := 2) (by omega) hL (fun r3 => pq_cell (k := 3) (by omega) hL (fun r4 => pq_cell (k := 4) (by omega) hL (fun r5 => ⟨216, 3456, by omega, by omega, pq_lawOf rfl (by omega) (by omega)⟩)))))
end
