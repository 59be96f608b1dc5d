section
/-! index rows -/
abbrev ic_z : Nat → Int32 := fun _ => 0
theorem ic_ix : ∀ c, c < 16 → ((0 : Int32) * 4) + (nI c >>> ((2 : Int32) &&& 31)) = nI (c / 4) := by decide +kernel
theorem ic_jx : ∀ c, c < 16 → ((0 : Int32) * 4) + (nI c &&& 3) = nI (c % 4) := by decide +kernel
theorem ic_i4 : ∀ i, i < 4 → ((0 : Int32) * 4) + nI i = nI i := by decide +kernel
theorem ic_fill {s : Nat → Int32} {i k : Nat} {x : Int32} (hk : k = i) (h : ∀ j, j < i → s j = x) : ∀ j, j < i + 1 → upd s k x j = x := by
  intro j hj
  rw [hk]
  by_cases e : j = i
  · rw [e, pk_us]
  · rw [pk_un e]
    exact h j (by omega)
/-! an int: outside 0..15, or one of them -/
def ic_O (p : Int32) : Prop := p < 0 ∨ (¬ p < 0 ∧ 15 < p)
theorem ic_split (p : Int32) : ic_O p ∨ ∃ c : Nat, c < 16 ∧ p = nI c ∧ ¬ p < 0 ∧ ¬ 15 < p := by
  by_cases h : p < 0
  · exact Or.inl (Or.inl h)
  · by_cases g : 15 < p
    · exact Or.inl (Or.inr ⟨h, g⟩)
    · obtain ⟨c, hc, e⟩ := nI_of2 (M := 15) (n := 15) (by decide) h (Int32.not_lt.mp g)
      exact Or.inr ⟨c, by omega, e, h, g⟩
theorem ic_16 {p : Int32} (h : 15 < p) : ¬ p < 16 := by
  rw [Int32.lt_iff_toInt_lt] at h ⊢
  have e1 : (15 : Int32).toInt = 15 := by decide
  have e2 : (16 : Int32).toInt = 16 := by decide
  omega
/-! what the first table says for cluster c: v; its word: r -/
def ic_E (a1 a2 : Nat → Int32) (c : Nat) (v : Int32) : Prop := (a1 (c / 4) = -1 ∧ v = -1) ∨ (a1 (c / 4) = 0 ∧ v = a2 (c % 4))
def ic_W (a4 : Nat → Int32) (v r : Int32) : Prop := (¬ 0 ≤ v ∧ r = 0) ∨ (v = 0 ∧ r = a4 0)
section
variable {f0 f1 : Int32} {a1 a2 a3 a4 a5 a6 a7 a8 : Nat → Int32} {c : Nat}
theorem ic_badO {post : Int32 → Prop} {p : Int32} (h : ic_O p) (hp : post 1) : wpX_bad post (f0, f1, a1, a2, a3, a4, a5, a6, a7, a8) p := by
  rcases h with h | ⟨h, g⟩
  · exact br_t h hp
  · exact br_f h (br_f (ic_16 g) hp)
theorem ic_badI {post : Int32 → Prop} (hc : c < 16) (hp : post 0) : wpX_bad post (f0, f1, a1, a2, a3, a4, a5, a6, a7, a8) (nI c) :=
  br_f (nI_pos (by omega)) (br_t (nI_lt (b := 16) hc (by decide)) hp)
theorem ic_entry {post : Int32 → Prop} {x v : Int32} (hx : x = 0) (hc : c < 16) (E : ic_E a1 a2 c v) (h : post v) : wpX_entry post (f0, f1, a1, a2, a3, a4, a5, a6, a7, a8) x (nI c) := by
  subst hx
  unfold wpX_entry
  rw [ic_ix c hc, nI_clamp (by omega)]
  refine ⟨vp_in_nI (by omega) (by decide), ?_⟩
  rcases E with ⟨e, rfl⟩ | ⟨e, rfl⟩
  · exact nm_r e (br_f (by decide) h)
  · refine nm_r e (br_t (by decide) ?_)
    rw [ic_jx c hc, nI_clamp (by omega)]
    exact ⟨vp_in_nI (by omega) (by decide), h⟩
theorem ic_wordOf {post : Int32 → Prop} {v r : Int32} (W : ic_W a4 v r) (h : post r) : wpX_wordOf post (f0, f1, a1, a2, a3, a4, a5, a6, a7, a8) v := by
  rcases W with ⟨n, rfl⟩ | ⟨rfl, rfl⟩
  · exact br_f n h
  · refine br_t (by decide) ⟨pk_in 0 132 (by decide), ?_⟩
    rw [sb_cl0]
    exact h
theorem ic_word {post : Int32 → Prop} {v r : Int32} (hc : c < 16) (E : ic_E a1 a2 c v) (W : ic_W a4 v r) (h : post r) : wpX_word post (1, f1, a1, a2, a3, a4, a5, a6, a7, a8) (nI c) := by
  unfold wpX_word wpX_top wpX_lookUp
  refine ic_entry (by decide) hc E (nm_r (e' := -1) (by decide) ⟨1, ?_⟩)
  refine br_t (by decide) ?_
  unfold wX_lookUp_39
  exact ic_wordOf W h
theorem ic_readI {post : Int32 → Prop} {p v r : Int32} (hp : p = nI c) (hc : c < 16) (E : ic_E a1 a2 c v) (W : ic_W a4 v r) (h : post r) : wpX_read post (1, f1, a1, a2, a3, a4, a5, a6, a7, a8) p := by
  subst hp
  unfold wpX_read
  exact ic_badI hc (br_t rfl (ic_word hc E W h))
theorem ic_readO {post : Int32 → Prop} {p : Int32} (hp : ic_O p) (h : post 0) : wpX_read post (f0, f1, a1, a2, a3, a4, a5, a6, a7, a8) p := by
  unfold wpX_read
  exact ic_badO hp (br_f (by decide) h)
/-! no snapshot, one image: revert and commit answer -4 -/
theorem ic_revert {post : Int32 → St2 → Prop} {p : Int32} (h : post (-4) (f0, 0, a1, a2, a3, a4, a5, a6, a7, a8)) : wpX_revert post (f0, 0, a1, a2, a3, a4, a5, a6, a7, a8) p := by
  unfold wpX_revert wpX_noShot
  exact br_c (fun _ => br_f (by decide) h) (fun z => br_f z (br_f (by decide) h))
theorem ic_commit {post : Int32 → St2 → Prop} (h : post (-4) (1, f1, a1, a2, a3, a4, a5, a6, a7, a8)) : wpX_commit post (1, f1, a1, a2, a3, a4, a5, a6, a7, a8) :=
  br_t rfl h
theorem ic_marked {post : Int32 → Prop} (f : Nat → Nat) (hf0 : f 0 = 0) (hf : ∀ j, j < 16 → (a6 j = 0 ∧ f (j + 1) = f j) ∨ (¬ a6 j = 0 ∧ f (j + 1) = f j + 1)) (h : post (nI (f 16))) : wpX_marked post (f0, f1, a1, a2, a3, a4, a5, a6, a7, a8) := by
  have H := pk_loop (σ := Unit) (fun n i _ => wX_marked_4 post f0 f1 a1 a2 a3 a4 a5 a6 a7 a8 n (nI (f i)) (nI i)) (fun _ _ => True) 16 0 () (by omega) trivial
    (fun n _ _ => pk_le 16 16 (fun _ => h) (fun z => absurd z (by omega)))
    (fun n i _ hi _ hw => pk_le 16 i (fun z => absurd z (by omega)) (fun _ => ⟨pk_in i 16 hi, by
      have t : wX_marked_4 post f0 f1 a1 a2 a3 a4 a5 a6 a7 a8 n (nI (f (i + 1))) (nI (i + 1)) := hw () trivial
      rw [nI_clamp (show i < 2 ^ 31 by omega)]
      rcases hf i hi with ⟨e, e'⟩ | ⟨e, e'⟩
      · rw [e'] at t
        exact br_t e (nm_r (nI_1 i) t)
      · rw [e'] at t
        exact br_f e (nm_r (nI_1 _) (nm_r (nI_1 i) t))⟩))
  obtain ⟨n, hn⟩ := H
  have hn' : wX_marked_4 post f0 f1 a1 a2 a3 a4 a5 a6 a7 a8 n (nI (f 0)) (nI 0) := hn
  rw [hf0] at hn'
  exact ⟨n, hn'⟩
end
end
section
/-! the constructor -/
theorem ic_init {post : St2 → Prop} (H : ∀ a1 : Nat → Int32, (∀ j, j < 32 → a1 j = -1) → post (1, 0, a1, ic_z, ic_z, ic_z, ic_z, ic_z, ic_z, ic_z)) : wpX_init post 8 524 (0, 0) := by
  refine ⟨by decide, by decide, by decide, by decide, by decide, by decide, by decide, by decide, by decide, by decide, by decide, by decide, by decide, by decide, by decide, by decide, ?_⟩
  exact pk_loop (fun n i s => wX_init_78 post 8 524 8 524 1 0 n (nI i) s ic_z ic_z ic_z ic_z ic_z ic_z ic_z) (fun i s => ∀ j, j < i → s j = -1) 32 0 ic_z (by omega) (fun j hj => absurd hj (by omega))
    (fun n s h => pk_le 32 32 (fun _ => H s h) (fun z => absurd z (by omega)))
    (fun n i s hi h hw => pk_le 32 i (fun z => absurd z (by omega)) (fun _ => ⟨pk_in i 32 hi, nm_e (nm_r (nI_1 i) (hw _ (ic_fill (nI_clamp (by omega)) h)))⟩))
section
variable {f0 f1 : Int32} {a1 a2 a3 a4 a5 a6 a7 a8 : Nat → Int32} {c : Nat}
theorem ic_ft5 {post : Int32 → St2 → Prop} (h3 : ∀ j, j < 36 → a3 j = 0) (h : post 0 (f0, f1, a1, a2, upd a3 0 1, a4, a5, a6, a7, a8)) : ∀ (k : Nat) (x1 : Int32), k ≤ 36 → (k = 0 → x1 = 0) → wX_freshTable_5 post f0 f1 a1 a2 a3 a4 a5 a6 a7 a8 (k + 1) x1 (nI k + (-1))
  | 0, x1, _, e => by
    rw [e rfl]
    exact br_t (by decide) ⟨pk_in 0 36 (by decide), nm_r (by rw [sb_cl0]) h⟩
  | k + 1, x1, hk, _ => by
    rw [pk_m1]
    exact br_f (nI_pos (by omega)) ⟨pk_in k 36 (by omega), br_t (by rw [nI_clamp (by omega)]; exact h3 k (by omega)) (nm_e (ic_ft5 h3 h k (nI k) (by omega) (fun z => by rw [z, nI_0])))⟩
theorem ic_ft {post : Int32 → St2 → Prop} (h3 : ∀ j, j < 36 → a3 j = 0) (h : post 0 (f0, f1, a1, a2, upd a3 0 1, a4, a5, a6, a7, a8)) : wpX_freshTable post (f0, f1, a1, a2, a3, a4, a5, a6, a7, a8) := by
  have h' := ic_ft5 h3 h 36 0 (by omega) (by omega)
  have e : nI 36 + (-1) = 35 := by decide
  rw [e] at h'
  exact ⟨37, h'⟩
theorem ic_fp6 {post : Int32 → St2 → Prop} {w : Int32} (h5 : ∀ j, j < 132 → a5 j = 0) (h : post 0 (f0, f1, a1, a2, a3, upd a4 0 w, upd a5 0 1, a6, a7, a8)) : ∀ (k : Nat) (x1 : Int32), k ≤ 132 → (k = 0 → x1 = 0) → wX_freshPlace_6 post w f0 f1 a1 a2 a3 a4 a5 a6 a7 a8 (k + 1) x1 (nI k + (-1))
  | 0, x1, _, e => by
    rw [e rfl]
    exact br_t (by decide) ⟨pk_in 0 132 (by decide), nm_r (by rw [sb_cl0]) ⟨pk_in 0 132 (by decide), nm_r (by rw [sb_cl0]) h⟩⟩
  | k + 1, x1, hk, _ => by
    rw [pk_m1]
    exact br_f (nI_pos (by omega)) ⟨pk_in k 132 (by omega), br_t (by rw [nI_clamp (by omega)]; exact h5 k (by omega)) (nm_e (ic_fp6 h5 h k (nI k) (by omega) (fun z => by rw [z, nI_0])))⟩
theorem ic_fp {post : Int32 → St2 → Prop} {w : Int32} (h5 : ∀ j, j < 132 → a5 j = 0) (h : post 0 (f0, f1, a1, a2, a3, upd a4 0 w, upd a5 0 1, a6, a7, a8)) : wpX_freshPlace post (f0, f1, a1, a2, a3, a4, a5, a6, a7, a8) w := by
  have h' := ic_fp6 h5 h 132 0 (by omega) (by omega)
  have e : nI 132 + (-1) = 131 := by decide
  rw [e] at h'
  exact ⟨133, h'⟩
/-! a table of its own where none stood: table 0, four times NOTHING -/
theorem ic_own44 {post : Int32 → St2 → Prop} {g : Nat} (hg : g < 32) (H : ∀ b : Nat → Int32, (∀ j, j < 4 → b j = -1) → post 0 (f0, f1, upd a1 g 0, b, a3, a4, a5, a6, a7, a8)) : ∃ n, wX_ownTable_44 post (nI g) (-1) 0 f0 f1 n 0 a1 a2 a3 a4 a5 a6 a7 a8 :=
  pk_loop (fun n i s => wX_ownTable_44 post (nI g) (-1) 0 f0 f1 n (nI i) a1 s a3 a4 a5 a6 a7 a8) (fun i s => ∀ j, j < i → s j = -1) 4 0 a2 (by omega) (fun j hj => absurd hj (by omega))
    (fun n s h => pk_le 4 4 (fun _ => br_f (c := (0 : Int32) ≤ -1) (by decide) ⟨pk_in g 32 hg, nm_r (by rw [nI_clamp (by omega)]) (H s h)⟩) (fun z => absurd z (by omega)))
    (fun n i s hi h hw => pk_le 4 i (fun z => absurd z (by omega)) (fun _ => br_f (c := (0 : Int32) ≤ -1) (by decide)
      ⟨pk_in i 144 (by omega) (ic_i4 i hi), nm_r (by rw [ic_i4 i hi, nI_clamp (by omega)]) (br_t (c := (-1 : Int32) < 0) (by decide) (nm_r (nI_1 i) (hw (upd s i (-1)) (ic_fill rfl h))))⟩))
theorem ic_own {post : Int32 → St2 → Prop} {x : Int32} (hx : x = 0) (hc : c < 16) (e : a1 (c / 4) = -1) (h3 : ∀ j, j < 36 → a3 j = 0) (H : ∀ b : Nat → Int32, (∀ j, j < 4 → b j = -1) → post 0 (f0, f1, upd a1 (c / 4) 0, b, upd a3 0 1, a4, a5, a6, a7, a8)) : wpX_ownTable post (f0, f1, a1, a2, a3, a4, a5, a6, a7, a8) x (nI c) := by
  subst hx
  unfold wpX_ownTable
  rw [ic_ix c hc]
  refine nm_e ⟨pk_in (c / 4) 32 (by omega), nm_r (e' := -1) (by rw [nI_clamp (by omega)]; exact e) (br_t (by decide) ?_)⟩
  unfold wX_ownTable_35
  exact ic_ft h3 (ic_own44 (by omega) H)
theorem ic_ownE {post : Int32 → St2 → Prop} {x : Int32} (hx : x = 0) (hc : c < 16) (e : a1 (c / 4) = 0) (h3 : a3 0 = 1) (H : post 0 (f0, f1, a1, a2, a3, a4, a5, a6, a7, a8)) : wpX_ownTable post (f0, f1, a1, a2, a3, a4, a5, a6, a7, a8) x (nI c) := by
  subst hx
  unfold wpX_ownTable
  rw [ic_ix c hc]
  exact nm_e ⟨pk_in (c / 4) 32 (by omega), nm_r (e' := 0) (by rw [nI_clamp (by omega)]; exact e) (br_f (by decide) ⟨pk_in 0 36 (by decide), br_t (by rw [sb_cl0]; exact h3) H⟩)⟩
/-! say where no table stood -/
theorem ic_say {post : St2 → Prop} {x w : Int32} (hx : x = 0) (hc : c < 16) (e : a1 (c / 4) = -1) (h3 : ∀ j, j < 36 → a3 j = 0) (h5 : ∀ j, j < 132 → a5 j = 0)
    (H0 : w = 0 → ∀ b : Nat → Int32, b (c % 4) = -2 → (∀ j, j < 4 → j ≠ c % 4 → b j = -1) → post (f0, f1, upd a1 (c / 4) 0, b, upd a3 0 1, a4, a5, a6, a7, a8))
    (H1 : ¬ w = 0 → ∀ b : Nat → Int32, b (c % 4) = 0 → (∀ j, j < 4 → j ≠ c % 4 → b j = -1) → post (f0, f1, upd a1 (c / 4) 0, b, upd a3 0 1, upd a4 0 w, upd a5 0 1, a6, a7, a8)) :
    wpX_say post (f0, f1, a1, a2, a3, a4, a5, a6, a7, a8) x (nI c) w := by
  unfold wpX_say
  refine ic_own hx hc e h3 (fun b h2 => ?_)
  dsimp only
  refine nm_r (ic_jx c hc) ⟨pk_in (c % 4) 144 (by omega), nm_r (e' := -1) (by rw [nI_clamp (by omega)]; exact h2 _ (by omega)) (br_c (fun z => ?_) (fun z => br_t (by decide) ?_))⟩
  · unfold wX_say_56
    exact br_t (by decide) (br_t z ⟨pk_in (c % 4) 144 (by omega), nm_r (by rw [nI_clamp (by omega)]) (H0 z _ pk_us (fun j hj hn => by rw [pk_un hn]; exact h2 j hj))⟩)
  · unfold wX_say_56
    exact br_t (by decide) (br_f z (ic_fp h5 ⟨pk_in (c % 4) 144 (by omega), nm_r (by rw [nI_clamp (by omega)]) (H1 z _ pk_us (fun j hj hn => by rw [pk_un hn]; exact h2 j hj))⟩))
end
/-! the picture: one table, which says v for cluster c and nothing else -/
def ic_P (c : Nat) (v : Int32) (a1 a2 a3 : Nat → Int32) : Prop := a1 (c / 4) = 0 ∧ (∀ j, j < 4 → j ≠ c / 4 → a1 j = -1) ∧ a2 (c % 4) = v ∧ (∀ j, j < 4 → j ≠ c % 4 → a2 j = -1) ∧ a3 0 = 1
theorem ic_Ps {c : Nat} {v : Int32} {a1 a2 a3 : Nat → Int32} (h : ic_P c v a1 a2 a3) : ic_E a1 a2 c v := Or.inr ⟨h.1, h.2.2.1.symm⟩
theorem ic_Pn {c d : Nat} {v : Int32} {a1 a2 a3 : Nat → Int32} (hd : d < 16) (n : d ≠ c) (h : ic_P c v a1 a2 a3) : ic_E a1 a2 d (-1) := by
  obtain ⟨h1, h2, h3, h4, h5⟩ := h
  by_cases e : d / 4 = c / 4
  · exact Or.inr ⟨by rw [e]; exact h1, (h4 _ (by omega) (by omega)).symm⟩
  · exact Or.inl ⟨h2 _ (by omega) e, rfl⟩
/-! write -/
theorem ic_writeO {post : Int32 → St2 → Prop} {f0 f1 : Int32} {a1 a2 a3 a4 a5 a6 a7 a8 : Nat → Int32} {p w : Int32} (hp : ic_O p) (h : post (-1) (f0, f1, a1, a2, a3, a4, a5, a6, a7, a8)) : wpX_write post (f0, f1, a1, a2, a3, a4, a5, a6, a7, a8) p w := by
  unfold wpX_write
  exact ic_badO hp (br_f (by decide) h)
theorem ic_writeI {post : Int32 → St2 → Prop} {a1 : Nat → Int32} {c : Nat} {p w : Int32} (hp : p = nI c) (hc : c < 16) (h1 : ∀ j, j < 32 → a1 j = -1)
    (H0 : w = 0 → ∀ b1 b2 b3 : Nat → Int32, ic_P c (-2) b1 b2 b3 → post 0 (1, 0, b1, b2, b3, ic_z, ic_z, ic_z, ic_z, ic_z))
    (H1 : ¬ w = 0 → ∀ b1 b2 b3 b5 : Nat → Int32, ic_P c 0 b1 b2 b3 → post 1 (1, 0, b1, b2, b3, upd ic_z 0 w, b5, upd ic_z c 1, ic_z, ic_z)) :
    wpX_write post (1, 0, a1, ic_z, ic_z, ic_z, ic_z, ic_z, ic_z, ic_z) p w := by
  subst hp
  have hP : ∀ (v : Int32) (b : Nat → Int32), b (c % 4) = v → (∀ j, j < 4 → j ≠ c % 4 → b j = -1) → ic_P c v (upd a1 (c / 4) 0) b (upd ic_z 0 1) := fun v b e1 e2 =>
    ⟨pk_us, fun j hj hn => by rw [pk_un hn]; exact h1 j (by omega), e1, e2, pk_us⟩
  unfold wpX_write
  refine ic_badI hc (br_t rfl (ic_word hc (v := -1) (r := 0) (Or.inl ⟨h1 _ (by omega), rfl⟩) (Or.inl ⟨by decide, rfl⟩) ?_))
  unfold wpX_top
  refine ic_say (by decide) hc (h1 _ (by omega)) (fun _ _ => rfl) (fun _ _ => rfl) (fun z b e1 e2 => ?_) (fun z b e1 e2 => ?_)
  · exact br_t z.symm (H0 z _ _ _ (hP _ b e1 e2))
  · exact br_f (fun e => z e.symm) ⟨pk_in c 16 hc, nm_r (by rw [nI_clamp (by omega)]) (H1 z _ _ _ _ (hP _ b e1 e2))⟩
/-! discard -/
section
variable {f1 : Int32} {a1 a2 a3 a4 a5 a6 a7 a8 : Nat → Int32} {d : Nat}
theorem ic_discardO {post : Int32 → St2 → Prop} {f0 p : Int32} (hp : ic_O p) (h : post (-1) (f0, f1, a1, a2, a3, a4, a5, a6, a7, a8)) : wpX_discard post (f0, f1, a1, a2, a3, a4, a5, a6, a7, a8) p := by
  unfold wpX_discard
  exact ic_badO hp (br_f (by decide) h)
theorem ic_discardN {post : Int32 → St2 → Prop} {p : Int32} (hp : p = nI d) (hd : d < 16) (E : ic_E a1 a2 d (-1)) (h : post 0 (1, f1, a1, a2, a3, a4, a5, a6, a7, a8)) : wpX_discard post (1, f1, a1, a2, a3, a4, a5, a6, a7, a8) p := by
  subst hp
  unfold wpX_discard
  refine ic_badI hd (br_t rfl (ic_word hd E (r := 0) (Or.inl ⟨by decide, rfl⟩) ?_))
  unfold wpX_top
  refine ic_entry (by decide) hd E (br_t rfl ?_)
  unfold wX_discard_34 wpX_top wpX_sayNothing
  refine ic_entry (by decide) hd E (br_t rfl ?_)
  exact ic_word hd E (r := 0) (Or.inl ⟨by decide, rfl⟩) (br_t rfl h)
theorem ic_discardY {post : Int32 → St2 → Prop} {p v r : Int32} (hp : p = nI d) (hd : d < 16) (e1 : a1 (d / 4) = 0) (e2 : a2 (d % 4) = v) (e3 : a3 0 = 1) (hv : v = -2 ∨ v = 0) (W : ic_W a4 v r)
    (H : ∀ b2 b5 b6 : Nat → Int32, (b6 = a6 ∨ (¬ r = 0 ∧ b6 = upd a6 d 1)) → post 1 (1, f1, a1, b2, a3, a4, b5, b6, a7, a8)) : wpX_discard post (1, f1, a1, a2, a3, a4, a5, a6, a7, a8) p := by
  subst hp
  have E : ic_E a1 a2 d v := Or.inr ⟨e1, e2.symm⟩
  have nv : ¬ v = -1 := by rcases hv with rfl | rfl <;> decide
  have E' : ic_E a1 (upd a2 (d % 4) (-1)) d (-1) := Or.inr ⟨e1, pk_us.symm⟩
  unfold wpX_discard
  refine ic_badI hd (br_t rfl (ic_word hd E W ?_))
  unfold wpX_top
  refine ic_entry (by decide) hd E (br_f nv ?_)
  unfold wX_discard_34 wpX_top wpX_sayNothing
  refine ic_entry (by decide) hd E (br_f nv (ic_ownE (by decide) hd e1 e3 ?_))
  have K : ∀ b5 : Nat → Int32, wpX_word (fun r_35 => (r_35 = r → post 1 (1, f1, a1, upd a2 (d % 4) (-1), a3, a4, b5, a6, a7, a8)) ∧ (¬ r_35 = r → (vp_in (nI d) 16 ∧ ∀ q : Nat → Int32, q = upd a6 (nI d).toNatClampNeg 1 → post 1 (1, f1, a1, upd a2 (d % 4) (-1), a3, a4, b5, q, a7, a8)))) (1, f1, a1, upd a2 (d % 4) (-1), a3, a4, b5, a6, a7, a8) (nI d) := fun b5 =>
    ic_word hd E' (r := 0) (Or.inl ⟨by decide, rfl⟩) (br_c (fun _ => H _ _ _ (Or.inl rfl)) (fun z => ⟨pk_in d 16 hd, nm_r (by rw [nI_clamp (by omega)]) (H _ _ _ (Or.inr ⟨fun t => z t.symm, rfl⟩))⟩))
  have J : vp_in ((0 * 4) + (nI d &&& 3)) 144 := pk_in (d % 4) 144 (by omega) (ic_jx d hd)
  have U : upd a2 ((0 * 4) + (nI d &&& 3)).toNatClampNeg (-1) = upd a2 (d % 4) (-1) := by rw [ic_jx d hd, nI_clamp (by omega)]
  rcases hv with rfl | rfl
  · exact br_t (by decide) ⟨J, nm_r U (K _)⟩
  · exact br_f (by decide) ⟨pk_in 0 132 (by decide), pk_in 0 132 (by decide), nm_e ⟨J, nm_r U (K _)⟩⟩
end
end
section
theorem ic_n10 : ¬ (1 : Int32) = 0 := by decide
/-! the law's last expression -/
theorem ic_88 {mc ms kc ks : Nat} {x0 x1 x2 x5 x6 x7 x10 x11 x12 : Int32}
    (h5 : x5 = if x11 = 0 then -1 else if x1 = 0 then 0 else 1) (h6 : x6 = if x11 = 0 then 0 else x1)
    (h7 : x7 = if x12 = 0 then -1 else if x11 = 0 then 0 else if x0 = x2 then 1 else 0)
    (h10 : x10 = if x11 = 0 then 0 else if x1 = 0 then 0 else 1) :
    wL_lawOf_88 (fun r _ => r = 1) mc ms x0 x1 x2 x5 x6 x7 (-4) (-4) x10 x11 x12 kc ks := by
  subst h5 h6 h7 h10
  unfold wL_lawOf_88 wL_lawOf_110 wL_lawOf_125 wL_lawOf_153 wL_lawOf_154 wL_lawOf_186 wL_lawOf_187
  by_cases e11 : x11 = 0
  · by_cases e12 : x12 = 0
    · simp [e11, e12]
    · simp [e11, e12]
  · by_cases e1 : x1 = 0
    · by_cases e12 : x12 = 0
      · simp [e11, e1, e12]
      · by_cases e0 : x0 = x2
        · simp [e11, e1, e12, e0]
        · simp [e11, e1, e12, e0]
    · by_cases e12 : x12 = 0
      · simp [e11, e1, e12]
      · by_cases e0 : x0 = x2
        · simp [e11, e1, e12, e0]
        · simp [e11, e1, e12, e0]
/-- the last expression, read from the first comparison of the first argument on -/
def ic_F (p0 p1 p2 r1 r2 r3 r4 r5 r6 : Int32) : Prop := (p0 < 0 → wL_lawOf_70 (fun r _ => r = 1) 9 534 p0 p1 p2 r1 r2 r3 r4 r5 r6 (1 + 8) (10 + 524)) ∧ (¬ p0 < 0 → ((15 < p0 → wL_lawOf_70 (fun r _ => r = 1) 9 534 p0 p1 p2 r1 r2 r3 r4 r5 r6 (1 + 8) (10 + 524)) ∧ (¬ 15 < p0 → wL_lawOf_71 (fun r _ => r = 1) 9 534 p0 p1 p2 r1 r2 r3 r4 r5 r6 1 (1 + 8) (10 + 524))))
theorem ic_71 {post : Int32 → St0 → Prop} {mc ms kc ks : Nat} {x0 x1 x2 x5 x6 x7 x8 x9 x10 x11 : Int32} (b : Int32) (hb : (ic_O x2 ∧ b = 0) ∨ (¬ x2 < 0 ∧ ¬ 15 < x2 ∧ b = 1)) (h : wL_lawOf_88 post mc ms x0 x1 x2 x5 x6 x7 x8 x9 x10 x11 b kc ks) : wL_lawOf_71 post mc ms x0 x1 x2 x5 x6 x7 x8 x9 x10 x11 kc ks := by
  rcases hb with ⟨o | ⟨o1, o2⟩, rfl⟩ | ⟨o1, o2, rfl⟩
  · exact br_t o h
  · exact br_f o1 (br_t o2 h)
  · exact br_f o1 (br_f o2 h)
theorem ic_Fin {p0 p1 p2 r1 r2 r3 r6 : Int32} (a b : Int32) (ha : (ic_O p0 ∧ a = 0) ∨ (¬ p0 < 0 ∧ ¬ 15 < p0 ∧ a = 1)) (hb : (ic_O p2 ∧ b = 0) ∨ (¬ p2 < 0 ∧ ¬ 15 < p2 ∧ b = 1))
    (h5 : r1 = if a = 0 then -1 else if p1 = 0 then 0 else 1) (h6 : r2 = if a = 0 then 0 else p1)
    (h7 : r3 = if b = 0 then -1 else if a = 0 then 0 else if p0 = p2 then 1 else 0)
    (h10 : r6 = if a = 0 then 0 else if p1 = 0 then 0 else 1) : ic_F p0 p1 p2 r1 r2 r3 (-4) (-4) r6 := by
  have h := ic_71 (post := fun r _ => r = 1) (mc := 9) (ms := 534) (kc := 1 + 8) (ks := 10 + 524) b hb (ic_88 h5 h6 h7 h10)
  rcases ha with ⟨o | ⟨o1, o2⟩, rfl⟩ | ⟨o1, o2, rfl⟩
  · exact br_t o h
  · exact br_f o1 (br_t o2 h)
  · exact br_f o1 (br_f o2 h)
/-! the counts of marks -/
theorem ic_m0 : ∀ j, j < 16 → (ic_z j = 0 ∧ (fun _ => 0 : Nat → Nat) (j + 1) = (fun _ => 0 : Nat → Nat) j) ∨ (¬ ic_z j = 0 ∧ (fun _ => 0 : Nat → Nat) (j + 1) = (fun _ => 0 : Nat → Nat) j + 1) := fun _ _ => Or.inl ⟨rfl, rfl⟩
def ic_cnt (c : Nat) (i : Nat) : Nat := if c < i then 1 else 0
theorem ic_m1 {c : Nat} {a : Nat → Int32} (hs : a c = 1) (hn : ∀ j, j ≠ c → a j = 0) : ∀ j, j < 16 → (a j = 0 ∧ ic_cnt c (j + 1) = ic_cnt c j) ∨ (¬ a j = 0 ∧ ic_cnt c (j + 1) = ic_cnt c j + 1) := by
  intro j _
  unfold ic_cnt
  by_cases e : j = c
  · refine Or.inr ⟨by rw [e, hs]; decide, ?_⟩
    rw [if_pos (show c < j + 1 by omega), if_neg (show ¬ c < j by omega)]
  · refine Or.inl ⟨hn j e, ?_⟩
    by_cases g : c < j
    · rw [if_pos (show c < j + 1 by omega), if_pos g]
    · rw [if_neg (show ¬ c < j + 1 by omega), if_neg g]
theorem ic_c16 {c : Nat} (hc : c < 16) : nI (ic_cnt c 16) = 1 := by
  unfold ic_cnt
  rw [if_pos hc]
  rfl
/-! behind the discard: revert, commit, marked and the last expression -/
def ic_T (p0 p1 p2 p3 r1 r2 r3 : Int32) (u : St2) : Prop := match u with
  | (f0, f1, a1, a2, a3, a4, a5, a6, a7, a8) => wpX_revert (fun r4 u => match u with | (f0, f1, a1, a2, a3, a4, a5, a6, a7, a8) => wpX_commit (fun r5 u => match u with | (f0, f1, a1, a2, a3, a4, a5, a6, a7, a8) => wpX_marked (fun r6 => ic_F p0 p1 p2 r1 r2 r3 r4 r5 r6) (f0, f1, a1, a2, a3, a4, a5, a6, a7, a8)) (f0, f1, a1, a2, a3, a4, a5, a6, a7, a8)) (f0, f1, a1, a2, a3, a4, a5, a6, a7, a8) p3
theorem ic_T0 {p0 p1 p2 p3 r1 r2 r3 : Int32} {a1 a2 a3 a4 a5 a7 a8 : Nat → Int32} (h : ic_F p0 p1 p2 r1 r2 r3 (-4) (-4) 0) : ic_T p0 p1 p2 p3 r1 r2 r3 (1, 0, a1, a2, a3, a4, a5, ic_z, a7, a8) := by
  unfold ic_T
  exact ic_revert (ic_commit (ic_marked (fun _ => 0) rfl ic_m0 h))
theorem ic_T1 {p0 p1 p2 p3 r1 r2 r3 : Int32} {a1 a2 a3 a4 a5 a6 a7 a8 : Nat → Int32} {c : Nat} (hc : c < 16) (hs : a6 c = 1) (hn : ∀ j, j ≠ c → a6 j = 0) (h : ic_F p0 p1 p2 r1 r2 r3 (-4) (-4) 1) : ic_T p0 p1 p2 p3 r1 r2 r3 (1, 0, a1, a2, a3, a4, a5, a6, a7, a8) := by
  unfold ic_T
  exact ic_revert (ic_commit (ic_marked (ic_cnt c) rfl (ic_m1 hs hn) (by rw [ic_c16 hc]; exact h)))
/-! the law over four ints -/
theorem ic_lawOf (p0 p1 p2 p3 : Int32) : wpL_lawOf (fun r _ => r = 1) 9 534 () p0 p1 p2 p3 := by
  refine ⟨by decide, by decide, 8, 524, by decide, by decide, ic_init (fun a1 h1 => ?_)⟩
  show wpX_write (fun r1 u => match u with | (f0, f1, a1, a2, a3, a4, a5, a6, a7, a8) => wpX_read (fun r2 => wpX_discard (fun r3 u => ic_T p0 p1 p2 p3 r1 r2 r3 u) (f0, f1, a1, a2, a3, a4, a5, a6, a7, a8) p2) (f0, f1, a1, a2, a3, a4, a5, a6, a7, a8) p0) (1, 0, a1, ic_z, ic_z, ic_z, ic_z, ic_z, ic_z, ic_z) p0 p1
  rcases ic_split p0 with o | ⟨c, hc, ec, c1, c2⟩
  · refine ic_writeO o (ic_readO o ?_)
    rcases ic_split p2 with q | ⟨d, hd, ed, d1, d2⟩
    · exact ic_discardO q (ic_T0 (ic_Fin 0 0 (Or.inl ⟨o, rfl⟩) (Or.inl ⟨q, rfl⟩) rfl rfl rfl rfl))
    · refine ic_discardN ed hd (Or.inl ⟨h1 _ (by omega), rfl⟩) ?_
      exact ic_T0 (ic_Fin 0 1 (Or.inl ⟨o, rfl⟩) (Or.inr ⟨d1, d2, rfl⟩) rfl rfl rfl rfl)
  · have ia : (ic_O p0 ∧ (1 : Int32) = 0) ∨ (¬ p0 < 0 ∧ ¬ 15 < p0 ∧ (1 : Int32) = 1) := Or.inr ⟨c1, c2, rfl⟩
    have hF : ∀ (b r1 r3 r6 : Int32), ((ic_O p2 ∧ b = 0) ∨ (¬ p2 < 0 ∧ ¬ 15 < p2 ∧ b = 1)) → r1 = (if p1 = 0 then 0 else 1) → r3 = (if b = 0 then -1 else if p0 = p2 then 1 else 0) → r6 = (if p1 = 0 then 0 else 1) → ic_F p0 p1 p2 r1 p1 r3 (-4) (-4) r6 := fun b r1 r3 r6 hb e1 e3 e6 =>
      ic_Fin 1 b ia hb e1 rfl e3 e6
    have hne : ∀ d, p2 = nI d → d < 16 → d ≠ c → ¬ p0 = p2 := fun d ed hd n e => n ((nI_eq (by omega) (by omega)).mp (ed.symm.trans (e.symm.trans ec)))
    refine ic_writeI ec hc h1 (fun z b1 b2 b3 P => ?_) (fun z b1 b2 b3 b5 P => ?_)
    · refine ic_readI ec hc (ic_Ps P) (r := p1) (Or.inl ⟨by decide, z⟩) ?_
      rcases ic_split p2 with q | ⟨d, hd, ed, d1, d2⟩
      · exact ic_discardO q (ic_T0 (hF 0 _ _ _ (Or.inl ⟨q, rfl⟩) (by rw [if_pos z]) rfl (by rw [if_pos z])))
      · by_cases e : d = c
        · subst e
          refine ic_discardY ed (r := 0) hd P.1 P.2.2.1 P.2.2.2.2 (Or.inl rfl) (Or.inl ⟨by decide, rfl⟩) (fun c2 c5 c6 h6 => ?_)
          rcases h6 with rfl | ⟨n, _⟩
          · exact ic_T0 (hF 1 _ _ _ (Or.inr ⟨d1, d2, rfl⟩) (by rw [if_pos z]) (by rw [if_neg ic_n10, if_pos (ec.trans ed.symm)]) (by rw [if_pos z]))
          · exact absurd rfl n
        · have n := hne d ed hd e
          refine ic_discardN ed hd (ic_Pn hd e P) ?_
          exact ic_T0 (hF 1 _ _ _ (Or.inr ⟨d1, d2, rfl⟩) (by rw [if_pos z]) (by rw [if_neg ic_n10, if_neg n]) (by rw [if_pos z]))
    · refine ic_readI ec hc (ic_Ps P) (r := p1) (Or.inr ⟨rfl, pk_us.symm⟩) ?_
      have ms : upd ic_z c 1 c = 1 := pk_us
      have mn : ∀ j, j ≠ c → upd ic_z c 1 j = 0 := fun j hj => pk_un hj
      rcases ic_split p2 with q | ⟨d, hd, ed, d1, d2⟩
      · exact ic_discardO q (ic_T1 hc ms mn (hF 0 _ _ _ (Or.inl ⟨q, rfl⟩) (by rw [if_neg z]) rfl (by rw [if_neg z])))
      · by_cases e : d = c
        · subst e
          refine ic_discardY ed (r := p1) hd P.1 P.2.2.1 P.2.2.2.2 (Or.inr rfl) (Or.inr ⟨rfl, pk_us.symm⟩) (fun c2 c5 c6 h6 => ?_)
          have ms' : c6 d = 1 := by
            rcases h6 with rfl | ⟨_, rfl⟩
            · exact ms
            · exact pk_us
          have mn' : ∀ j, j ≠ d → c6 j = 0 := by
            intro j hj
            rcases h6 with rfl | ⟨_, rfl⟩
            · exact mn j hj
            · rw [pk_un hj]; exact mn j hj
          exact ic_T1 hc ms' mn' (hF 1 _ _ _ (Or.inr ⟨d1, d2, rfl⟩) (by rw [if_neg z]) (by rw [if_neg ic_n10, if_pos (ec.trans ed.symm)]) (by rw [if_neg z]))
        · have n := hne d ed hd e
          refine ic_discardN ed hd (ic_Pn hd e P) ?_
          exact ic_T1 hc ms mn (hF 1 _ _ _ (Or.inr ⟨d1, d2, rfl⟩) (by rw [if_neg z]) (by rw [if_neg ic_n10, if_neg n]) (by rw [if_neg z]))
theorem ic_cell {post : Int32 → Prop} {L : Nat} {xs : Nat → Int32} {x : Int32} (i : Nat) (hL : L ≤ 4) (hi : i < 4) (hx : x = nI i) (h : ∀ r, post r) : wpL_cellAt post L xs () x :=
  pk_le L i (fun _ => h _) (fun z => ⟨pk_in i L z hx, h _⟩) rfl hx
theorem i_vc (xs : Nat → Int32) (L : Nat) (hL : L ≤ 4) : wpL_law (fun r => r = 1) L xs := by
  unfold wpL_law
  exact ic_cell 0 hL (by decide) rfl (fun p0 => ic_cell 1 hL (by decide) rfl (fun p1 => ic_cell 2 hL (by decide) rfl (fun p2 => ic_cell 3 hL (by decide) rfl (fun p3 =>
    ⟨9, 534, by decide, by decide, ic_lawOf p0 p1 p2 p3⟩))))
end
