section
/-! the rows that the walks share -/
theorem ws_48 (w i : Nat) : 48 * nI w + nI i = nI (48 * w + i) := by
  rw [show (48 : Int32) = nI 48 from rfl, pk_mul, nI_add]
theorem ws_80 (i : Nat) : (8 : Int32) * 0 + nI i = nI i := by
  rw [show (8 : Int32) * 0 = nI 0 from rfl, nI_add, Nat.zero_add]
theorem ws_nm {e : Int32} {P : Int32 → Prop} (e' : Int32) (he : e = e') (h : P e') : ∀ x, x = e → P x := fun x ex => by rw [ex, he]; exact h
theorem ws_nf {e : Nat → Int32} {P : (Nat → Int32) → Prop} (e' : Nat → Int32) (he : e = e') (h : P e') : ∀ x, x = e → P x := fun x ex => by rw [ex, he]; exact h
/-- the strength of a word that occurs k times in a document of length k -/
def ws_E (k : Nat) : Int32 := (256 * nI k) / ((nI k + 2) + (nI k / 4))
theorem ws_E0 : ∀ k, k < 8 → ¬ ((nI k + 2) + (nI k / 4)) = 0 := by decide +kernel
theorem ws_byte : ∀ k, k < 8 → (nI k).toInt8.toInt32 = nI k := by decide +kernel
/-- the score of document 0 under an item of boost b (0: none) -/
def ws_S (b k : Nat) : Int32 := if 0 < b ∧ 0 < k then ((nI b - nI b / 10 * 10) * 64) * ws_E k else 0
theorem ws_bo1 : ∀ b, b < 20 → b ≠ 10 → nI b ≤ 10 → nI b * 64 = (nI b - nI b / 10 * 10) * 64 := by decide +kernel
theorem ws_bo2 : ∀ b, b < 20 → b ≠ 10 → ¬ nI b ≤ 10 → (nI b - 10) * 64 = (nI b - nI b / 10 * 10) * 64 := by decide +kernel
/-- a row of eight counts: k at the word w, else 0 -/
def ws_D (w k : Nat) (a : Nat → Int32) : Prop := ∀ j, j < 8 → a j = if j = w then nI k else 0
/-- the picture after one document: word w occurs k times in it -/
def ws_P (w k : Nat) (a1 a2 a3 a4 : Nat → Int32) : Prop :=
  w < 8 ∧ k < 8 ∧ ws_D w k a3 ∧ a4 0 = nI k ∧ (a2 w = if 0 < k then 2 else 0) ∧ (0 < k → a1 (48 * w) = 1 ∧ a1 (48 * w + 1) = nI k)
/-- the items: none (boost 0), or one, of word w and boost b -/
def ws_I (w b : Nat) (it : Int32) (a6 a7 : Nat → Int32) : Prop :=
  (it = 0 ∧ b = 0) ∨ (it = 1 ∧ a6 0 = nI w ∧ a7 0 = nI b ∧ b < 20 ∧ b ≠ 10)
/-- the lanes after openLanes -/
def ws_L (w k b : Nat) (ln : Int32) (a8 a9 a11 a13 : Nat → Int32) : Prop :=
  (b = 0 ∧ ln = 0) ∨ (0 < b ∧ ln = 1 ∧ a13 0 = nI w ∧ a8 0 = 0 ∧ (a9 0 = if 0 < k then 0 else 1000) ∧ (0 < k → a11 0 = (nI b - nI b / 10 * 10) * 64))
theorem ws_strength {post : Int32 → Prop} {k : Nat} (hk : k < 8) (hp : post (if 0 < k then ws_E k else 0)) : wpX_strength post () (nI k) (nI k) := by
  rcases Nat.eq_zero_or_pos k with h | h
  · subst h
    rw [if_neg (by omega)] at hp
    exact br_f (show ¬ (0 : Int32) < nI 0 by decide) hp
  · rw [if_pos h] at hp
    exact br_t (nI_lt (a := 0) h (by omega)) ⟨by decide, ws_E0 k hk, hp⟩
theorem ws_fill {f s : Nat → Int32} {i k : Nat} {x : Int32} (hk : k = i) (h : ∀ j, j < i → s j = f j) (hx : x = f i) : ∀ j, j < i + 1 → upd s k x j = f j := by
  intro j hj
  rw [hk]
  by_cases e : j = i
  · rw [e, pk_us, hx]
  · rw [pk_un e]
    exact h j (by omega)
section
variable {ad al it ln fd : Int32} {a1 a2 a3 a4 a5 a6 a7 a8 a9 a10 a11 a12 a13 a14 a15 : Nat → Int32} {w k : Nat}
theorem ws_draft {post : Int32 → Prop} (hw : w < 8) (hd : ws_D w k a5) (hp : post (nI k)) : wpX_draftLength post (ad, al, it, ln, fd, a1, a2, a3, a4, a5, a6, a7, a8, a9, a10, a11, a12, a13, a14, a15) :=
  pk_loop (fun n i s => wX_draftLength_4 post ad al it ln fd a1 a2 a3 a4 a5 a6 a7 a8 a9 a10 a11 a12 a13 a14 a15 n s (nI i)) (fun i s => s = if w < i then nI k else 0) 8 0 0 (by omega) (by rw [if_neg (by omega)])
    (fun n s h => pk_le 8 8 (fun _ => by rw [if_pos hw] at h; rw [h]; exact hp) (fun z => absurd z (by omega)))
    (fun n i s hi h hn => pk_le 8 i (fun z => absurd z (by omega)) (fun _ => ⟨pk_in i 8 hi, nm_e (nm_r (nI_1 i) (hn _ (by
      rw [nI_clamp (by omega), hd i hi, h]
      by_cases e : i = w
      · rw [if_neg (by omega), if_pos e, if_pos (by omega), Int32.zero_add]
      · rw [if_neg e, Int32.add_zero]
        by_cases g : w < i
        · rw [if_pos g, if_pos (by omega)]
        · rw [if_neg g, if_neg (by omega)])))⟩))
theorem ws_last {post : Int32 → Prop} {t : Nat} (ht : t < 8) (h : a2 t = 0) (hp : post (-1)) : wpX_lastOf post (ad, al, it, ln, fd, a1, a2, a3, a4, a5, a6, a7, a8, a9, a10, a11, a12, a13, a14, a15) (nI t) := by
  show ∃ n, wX_lastOf_4 post (nI t) ad al it ln fd a1 a2 a3 a4 a5 a6 a7 a8 a9 a10 a11 a12 a13 a14 a15 n (-1) 0
  exact ⟨1, And.intro (pk_in t 8 ht) (br_t (by rw [nI_clamp (by omega), h]; decide) hp)⟩
theorem ws_live0 {post : Int32 → Prop} (hp : post 1) : wpX_isLive post (1, 1, it, ln, fd, a1, a2, a3, a4, a5, a6, a7, a8, a9, a10, a11, a12, a13, a14, a15) 0 :=
  br_f (by decide) (br_f (by decide) (br_t (by decide +kernel) hp))
theorem ws_liveN {post : Int32 → Prop} {x : Int32} (hx : ¬ x = 0) (hp : post 0) : wpX_isLive post (1, 1, it, ln, fd, a1, a2, a3, a4, a5, a6, a7, a8, a9, a10, a11, a12, a13, a14, a15) x := by
  rcases pk_ix x (n := 1) (by omega) with h | h | ⟨j, hj, e⟩
  · exact br_t h hp
  · exact br_c (fun _ => hp) (fun _ => br_t h hp)
  · exact absurd (by rw [e, show j = 0 by omega]; rfl) hx
theorem ws_count {post : Int32 → Prop} (hp : post 1) : wpX_liveCount post (1, 1, it, ln, fd, a1, a2, a3, a4, a5, a6, a7, a8, a9, a10, a11, a12, a13, a14, a15) := by
  show ∃ n, wX_liveCount_4 post 1 1 it ln fd a1 a2 a3 a4 a5 a6 a7 a8 a9 a10 a11 a12 a13 a14 a15 n 0 0
  exact ⟨2, br_f (by decide) (ws_nm 1 (by decide +kernel) (ws_nm 1 (by decide) (br_t (by decide) hp)))⟩
theorem ws_place {post : Int32 → Prop} {x : Int32} (hp : post (-1)) : wpX_place post (ad, al, 0, ln, fd, a1, a2, a3, a4, a5, a6, a7, a8, a9, a10, a11, a12, a13, a14, a15) x := by
  show ∃ n, wX_place_2 post x ad al 0 ln fd a1 a2 a3 a4 a5 a6 a7 a8 a9 a10 a11 a12 a13 a14 a15 n 0
  exact ⟨1, br_t (by decide) hp⟩
end
end
section
/-! index and add: one document goes into empty lists -/
/-- index has done the words below i -/
def ws_X (w k i : Nat) (a1 a2 : Nat → Int32) : Prop :=
  (∀ t, t < 8 → a2 t = if t = w ∧ w < i ∧ 0 < k then 2 else 0) ∧ (w < i → 0 < k → a1 (48 * w) = 1 ∧ a1 (48 * w + 1) = nI k)
theorem ws_X0 {w k : Nat} {a1 a2 : Nat → Int32} (h : ∀ t, t < 8 → a2 t = 0) : ws_X w k 0 a1 a2 :=
  ⟨fun t ht => by rw [h t ht, if_neg (by omega)], fun z => absurd z (by omega)⟩
theorem ws_X_skip {w k i : Nat} {a1 a2 : Nat → Int32} (h : ws_X w k i a1 a2) (hi : ¬ (i = w ∧ 0 < k)) : ws_X w k (i + 1) a1 a2 := by
  refine ⟨fun t ht => ?_, fun z1 z2 => h.2 (by omega) z2⟩
  rw [h.1 t ht]
  by_cases e : t = w ∧ w < i ∧ 0 < k
  · rw [if_pos e, if_pos (by omega)]
  · rw [if_neg e, if_neg (by omega)]
theorem ws_X_put {w k : Nat} {a1 a2 : Nat → Int32} (hk : 0 < k) (h : ws_X w k w a1 a2) : ws_X w k (w + 1) (upd (upd a1 (48 * w) 1) (48 * w + 1) (nI k)) (upd a2 w 2) := by
  refine ⟨fun t ht => ?_, fun _ _ => ⟨?_, pk_us⟩⟩
  · by_cases e : t = w
    · rw [e, pk_us, if_pos (by omega)]
    · rw [pk_un e, h.1 t ht, if_neg (by omega), if_neg (by omega)]
  · rw [pk_un (by omega), pk_us]
section
variable {ad al it ln fd : Int32} {a1 a2 a3 a4 a5 a6 a7 a8 a9 a10 a11 a12 a13 a14 a15 : Nat → Int32} {w k : Nat}
theorem ws_index {post : St2 → Prop} (hw : w < 8) (hk : k < 8) (h3 : ws_D w k a3) (h0 : ws_X w k 0 a1 a2)
    (H : ∀ b1 b2, ws_X w k 8 b1 b2 → post (ad, al, it, ln, fd, b1, b2, a3, a4, a5, a6, a7, a8, a9, a10, a11, a12, a13, a14, a15)) : wpX_index post (ad, al, it, ln, fd, a1, a2, a3, a4, a5, a6, a7, a8, a9, a10, a11, a12, a13, a14, a15) 0 := by
  refine pk_loop (σ := (Nat → Int32) × (Nat → Int32)) (fun n i s => wX_index_2 post 0 ad al it ln fd n (nI i) s.1 s.2 a3 a4 a5 a6 a7 a8 a9 a10 a11 a12 a13 a14 a15) (fun i s => ws_X w k i s.1 s.2) 8 0 (a1, a2) (by omega) h0
    (fun n s h => pk_le 8 8 (fun _ => H s.1 s.2 h) (fun z => absurd z (by omega))) ?_
  intro n i s hi h hn
  have e8 : ((8 : Int32) * 0 + nI i).toNatClampNeg = i := pk_cl i (ws_80 i)
  have v8 : vp_in ((8 : Int32) * 0 + nI i) 192 := pk_in i 192 (by omega) (ws_80 i)
  have ei : (nI i).toNatClampNeg = i := nI_clamp (by omega)
  refine pk_le 8 i (fun z => absurd z (by omega)) (fun _ => ⟨v8, ?_⟩)
  rw [e8]
  by_cases g : i = w ∧ 0 < k
  · obtain ⟨gi, gk⟩ := g
    have e3 : a3 i = nI k := by rw [h3 i hi, if_pos gi]
    have e2 : s.2 i = 0 := by rw [h.1 i hi, if_neg (by omega)]
    have q : ws_X w k (i + 1) (upd (upd s.1 (48 * i) 1) (48 * i + 1) (nI k)) (upd s.2 i 2) := by
      subst gi
      exact ws_X_put gk h
    refine br_f (by rw [e3]; exact nI_nle gk (by omega)) ⟨pk_in i 8 hi, ?_⟩
    refine ws_nm (nI (48 * i)) (by rw [ei, e2]; exact ws_48 i 0) ?_
    refine ws_last hi e2 ?_
    refine ⟨pk_in (48 * i) 384 (by omega), ?_⟩
    refine ws_nf (upd s.1 (48 * i) 1) (by rw [nI_clamp (by omega)]; rfl) ⟨v8, pk_in (48 * i + 1) 384 (by omega) (nI_1 _), ?_⟩
    refine ws_nf (upd (upd s.1 (48 * i) 1) (48 * i + 1) (nI k)) (by rw [nI_1, nI_clamp (by omega), e3, ws_byte k hk]) ⟨pk_in i 8 hi, pk_in i 8 hi, ?_⟩
    refine ws_nf (upd s.2 i 2) (by rw [ei, e2]; rfl) ?_
    exact nm_r (nI_1 i) (hn (_, _) q)
  · refine br_t ?_ (nm_r (nI_1 i) (hn s (ws_X_skip h g)))
    rw [h3 i hi]
    by_cases e : i = w
    · rw [if_pos e, show k = 0 by omega]
      decide
    · rw [if_neg e]
      decide
theorem ws_add {post : Int32 → St2 → Prop} (hw : w < 8) (hk : k < 8) (h5 : ws_D w k a5) (h2 : ∀ t, t < 8 → a2 t = 0)
    (H : ∀ b1 b2 b3 b4, ws_P w k b1 b2 b3 b4 → post 0 (1, 1, it, ln, fd, b1, b2, b3, b4, a5, a6, a7, a8, a9, a10, a11, a12, a13, a14, a15)) : wpX_add post (0, 0, it, ln, fd, a1, a2, a3, a4, a5, a6, a7, a8, a9, a10, a11, a12, a13, a14, a15) := by
  refine br_f (by decide) ?_
  refine pk_loop (fun n i s => wX_add_13 post 0 0 it ln fd n (nI i) a1 a2 s a4 a5 a6 a7 a8 a9 a10 a11 a12 a13 a14 a15) (fun i s => ∀ j, j < i → s j = a5 j) 8 0 a3 (by omega) (fun j hj => absurd hj (by omega)) ?_ ?_
  · intro n s h
    refine pk_le 8 8 (fun _ => ?_) (fun z => absurd z (by omega))
    refine ws_draft hw h5 ?_
    refine ⟨pk_in 0 24 (by omega), ws_nf (upd a4 0 (nI k)) (by rw [sb_cl0]) ?_⟩
    have h3 : ws_D w k s := fun j hj => by rw [h j hj, h5 j hj]
    refine ws_index hw hk h3 (ws_X0 h2) (fun b1 b2 hx => ?_)
    refine ws_nm 1 (by decide +kernel) (ws_nm 1 (by decide) ?_)
    refine H b1 b2 s (upd a4 0 (nI k)) ⟨hw, hk, h3, pk_us, ?_, fun z => hx.2 hw z⟩
    rw [hx.1 w hw]
    by_cases z : 0 < k
    · rw [if_pos z, if_pos ⟨rfl, hw, z⟩]
    · rw [if_neg z, if_neg (by omega)]
  · intro n i s hi h hn
    have ei : (nI i).toNatClampNeg = i := nI_clamp (by omega)
    refine pk_le 8 i (fun z => absurd z (by omega)) (fun _ => ⟨pk_in i 8 hi, pk_in i 192 (by omega) (ws_80 i), ?_⟩)
    refine ws_nf (upd s i (a5 i)) (by rw [ws_80, ei]) (nm_r (nI_1 i) (hn _ (ws_fill rfl h rfl)))
end
end
section
/-! spreadOf, greatest, moveTo, openLanes over the picture -/
section
variable {it ln fd : Int32} {a1 a2 a3 a4 a5 a6 a7 a8 a9 a10 a11 a12 a13 a14 a15 : Nat → Int32} {w k b : Nat}
theorem ws_spread {post : Int32 → Prop} (p : ws_P w k a1 a2 a3 a4) (hp : post (if 0 < k then 1 else 0)) : wpX_spreadOf post (1, 1, it, ln, fd, a1, a2, a3, a4, a5, a6, a7, a8, a9, a10, a11, a12, a13, a14, a15) (nI w) := by
  obtain ⟨hw, hk, h3, h4, h2, h1⟩ := p
  have ew : (nI w).toNatClampNeg = w := nI_clamp (by omega)
  have e0 : (48 * nI w + 0).toNatClampNeg = 48 * w := pk_cl (48 * w) (ws_48 w 0)
  show ∃ n, wX_spreadOf_7 post (nI w) 1 1 it ln fd a1 a2 a3 a4 a5 a6 a7 a8 a9 a10 a11 a12 a13 a14 a15 n (-1) 0 0
  rcases Nat.eq_zero_or_pos k with z | z
  · rw [if_neg (by omega)] at hp h2
    exact ⟨1, And.intro (pk_in w 8 hw) (br_t (by rw [ew, h2]; decide) hp)⟩
  · rw [if_pos z] at hp h2
    exact ⟨2, And.intro (pk_in w 8 hw) (br_f (by rw [ew, h2]; decide) ⟨pk_in (48 * w) 384 (by omega) (ws_48 w 0),
      ws_nm 0 (by rw [e0, (h1 z).1]; decide) (ws_nm 1 (by decide +kernel) (ws_nm 2 (by decide) (And.intro (pk_in w 8 hw) (br_t (by rw [ew, h2]; decide) hp))))⟩)⟩
theorem ws_greatest {post : Int32 → Prop} (p : ws_P w k a1 a2 a3 a4) (hp : ∀ r, post r) : wpX_greatest post (1, 1, it, ln, fd, a1, a2, a3, a4, a5, a6, a7, a8, a9, a10, a11, a12, a13, a14, a15) (nI w) := by
  obtain ⟨hw, hk, h3, h4, h2, h1⟩ := p
  have ew : (nI w).toNatClampNeg = w := nI_clamp (by omega)
  have e0 : (48 * nI w + 0).toNatClampNeg = 48 * w := pk_cl (48 * w) (ws_48 w 0)
  have e1' : 48 * nI w + 0 + 1 = nI (48 * w + 1) := by
    rw [show 48 * nI w + 0 = nI (48 * w) from ws_48 w 0, nI_1]
  have e1 : (48 * nI w + 0 + 1).toNatClampNeg = 48 * w + 1 := pk_cl (48 * w + 1) e1'
  show ∃ n, wX_greatest_7 post (nI w) 1 1 it ln fd a1 a2 a3 a4 a5 a6 a7 a8 a9 a10 a11 a12 a13 a14 a15 n (-1) 0 0
  rcases Nat.eq_zero_or_pos k with z | z
  · rw [if_neg (by omega)] at h2
    exact ⟨1, And.intro (pk_in w 8 hw) (br_t (by rw [ew, h2]; decide) (hp _))⟩
  · rw [if_pos z] at h2
    refine ⟨2, And.intro (pk_in w 8 hw) (br_f (by rw [ew, h2]; decide) ⟨pk_in (48 * w) 384 (by omega) (ws_48 w 0),
      ws_nm 0 (by rw [e0, (h1 z).1]; decide) ⟨pk_in (48 * w + 1) 384 (by omega) e1', pk_in 0 24 (by omega), ?_⟩⟩)⟩
    rw [e1, (h1 z).2, sb_cl0, h4]
    refine ws_strength hk ?_
    exact br_c (fun _ => ws_nm 2 (by decide) (And.intro (pk_in w 8 hw) (br_t (by rw [ew, h2]; decide) (hp _))))
      (fun _ => ws_nm 2 (by decide) (And.intro (pk_in w 8 hw) (br_t (by rw [ew, h2]; decide) (hp _))))
/-- a cursor goes to the one entry of its list -/
theorem ws_42a {post : St2 → Prop} {J : (Nat → Int32) → (Nat → Int32) → (Nat → Int32) → (Nat → Int32) → (Nat → Int32) → (Nat → Int32) → (Nat → Int32) → (Nat → Int32) → (Nat → Int32) → (Nat → Int32) → (Nat → Int32) → (Nat → Int32) → (Nat → Int32) → (Nat → Int32) → (Nat → Int32) → Prop} {x2 : Int32}
    (hw : w < 8) (h8 : a8 0 = -2) (h9 : a9 0 = -1) (h2 : a2 w = 2) (h1 : a1 (48 * w) = 1) (hJ : ∀ b10, J a1 a2 a3 a4 a5 a6 a7 (upd a8 0 0) (upd a9 0 0) b10 a11 a12 a13 a14 a15) :
    wX_moveTo_42 post J 0 x2 (nI w) 1 1 it ln fd a1 a2 a3 a4 a5 a6 a7 a8 a9 a10 a11 a12 a13 a14 a15 := by
  have ew : (nI w).toNatClampNeg = w := nI_clamp (by omega)
  have e0' : 48 * nI w + upd a8 0 0 (0 : Int32).toNatClampNeg = nI (48 * w) := by rw [sb_cl0, pk_us]; exact ws_48 w 0
  have e1' : 48 * nI w + upd a8 0 0 (0 : Int32).toNatClampNeg + 1 = nI (48 * w + 1) := by rw [e0', nI_1]
  have v0 : vp_in 0 5 := pk_in 0 5 (by omega)
  refine And.intro v0 ⟨v0, ws_nf (upd a8 0 0) (by rw [sb_cl0, h8]; rfl) ⟨v0, pk_in w 8 hw, br_t ?_ ⟨v0, v0, pk_in (48 * w) 384 (by omega) e0', v0, ?_⟩⟩⟩
  · rw [sb_cl0, pk_us, ew, h2]
    decide
  · refine ws_nf (upd a9 0 0) ?_ ⟨v0, pk_in (48 * w + 1) 384 (by omega) e1', v0, nm_e (hJ _)⟩
    rw [pk_cl (48 * w) e0', sb_cl0, h1, h9]
    rfl
/-- a cursor goes to the end -/
theorem ws_42b {post : St2 → Prop} {J : (Nat → Int32) → (Nat → Int32) → (Nat → Int32) → (Nat → Int32) → (Nat → Int32) → (Nat → Int32) → (Nat → Int32) → (Nat → Int32) → (Nat → Int32) → (Nat → Int32) → (Nat → Int32) → (Nat → Int32) → (Nat → Int32) → (Nat → Int32) → (Nat → Int32) → Prop} {x2 : Int32}
    (hw : w < 8) (h2 : ¬ a8 0 + 2 < a2 w) (hJ : J a1 a2 a3 a4 a5 a6 a7 (upd a8 0 (a8 0 + 2)) (upd a9 0 1000) a10 a11 a12 a13 a14 a15) :
    wX_moveTo_42 post J 0 x2 (nI w) 1 1 it ln fd a1 a2 a3 a4 a5 a6 a7 a8 a9 a10 a11 a12 a13 a14 a15 := by
  have ew : (nI w).toNatClampNeg = w := nI_clamp (by omega)
  have v0 : vp_in 0 5 := pk_in 0 5 (by omega)
  refine And.intro v0 ⟨v0, ws_nf (upd a8 0 (a8 0 + 2)) (by rw [sb_cl0]) ⟨v0, pk_in w 8 hw, br_f ?_ ⟨v0, ?_⟩⟩⟩
  · rw [sb_cl0, pk_us, ew]
    exact h2
  · exact ws_nf (upd a9 0 1000) (by rw [sb_cl0]) hJ
theorem ws_moveA {post : St2 → Prop} {p0 : Int32} (hp0 : p0 = 0) (hw : w < 8) (h13 : a13 0 = nI w) (h8 : a8 0 = -2) (h9 : a9 0 = -1) (h2 : a2 w = 2) (h1 : a1 (48 * w) = 1)
    (H : ∀ b10, post (1, 1, it, ln, fd, a1, a2, a3, a4, a5, a6, a7, (upd a8 0 0), (upd a9 0 0), b10, a11, a12, a13, a14, a15)) : wpX_moveTo post (1, 1, it, ln, fd, a1, a2, a3, a4, a5, a6, a7, a8, a9, a10, a11, a12, a13, a14, a15) p0 0 := by
  subst hp0
  have v0 : vp_in 0 5 := pk_in 0 5 (by omega)
  refine And.intro v0 (ws_nm (nI w) (by rw [sb_cl0, h13]) ⟨2, And.intro v0 (br_f (by rw [sb_cl0, h9]; decide) ⟨v0, br_t (by rw [sb_cl0, h9]; decide) ?_⟩)⟩)
  refine ws_42a hw h8 h9 h2 h1 (fun b10 => ?_)
  refine And.intro v0 (br_f (by rw [sb_cl0, pk_us]; decide) ⟨v0, br_f (by rw [sb_cl0, pk_us]; decide) ⟨v0, ?_⟩⟩)
  rw [sb_cl0, pk_us]
  exact ws_live0 (br_f (by decide) (H b10))
theorem ws_moveB {post : St2 → Prop} {p0 p1 : Int32} (hp0 : p0 = 0) (hw : w < 8) (h13 : a13 0 = nI w) (h9 : ¬ a9 0 = 1000) (h91 : a9 0 < p1) (h2 : ¬ a8 0 + 2 < a2 w)
    (H : post (1, 1, it, ln, fd, a1, a2, a3, a4, a5, a6, a7, (upd a8 0 (a8 0 + 2)), (upd a9 0 1000), a10, a11, a12, a13, a14, a15)) : wpX_moveTo post (1, 1, it, ln, fd, a1, a2, a3, a4, a5, a6, a7, a8, a9, a10, a11, a12, a13, a14, a15) p0 p1 := by
  subst hp0
  have v0 : vp_in 0 5 := pk_in 0 5 (by omega)
  refine And.intro v0 (ws_nm (nI w) (by rw [sb_cl0, h13]) ⟨2, And.intro v0 (br_f (by rw [sb_cl0]; exact h9) ⟨v0, br_t (by rw [sb_cl0]; exact h91) ?_⟩)⟩)
  refine ws_42b hw h2 ?_
  exact And.intro v0 (br_t (by rw [sb_cl0, pk_us]) H)
/-- the cursor that openLanes makes -/
theorem ws_move0 {post : St2 → Prop} {p0 : Int32} (hp0 : p0 = 0) (p : ws_P w k a1 a2 a3 a4) (h13 : a13 0 = nI w) (h8 : a8 0 = -2) (h9 : a9 0 = -1)
    (H : ∀ b8 b9 b10, b8 0 = 0 → (b9 0 = if 0 < k then 0 else 1000) → post (1, 1, it, ln, fd, a1, a2, a3, a4, a5, a6, a7, b8, b9, b10, a11, a12, a13, a14, a15)) : wpX_moveTo post (1, 1, it, ln, fd, a1, a2, a3, a4, a5, a6, a7, a8, a9, a10, a11, a12, a13, a14, a15) p0 0 := by
  obtain ⟨hw, hk, h3, h4, h2, h1⟩ := p
  by_cases z : 0 < k
  · rw [if_pos z] at h2
    exact ws_moveA hp0 hw h13 h8 h9 h2 (h1 z).1 (fun b10 => H _ _ b10 pk_us (by rw [if_pos z, pk_us]))
  · rw [if_neg z] at h2
    exact ws_moveB hp0 hw h13 (by rw [h9]; decide) (by rw [h9]; decide) (by rw [h8, h2]; decide) (H _ _ _ (by rw [pk_us, h8]; decide) (by rw [if_neg z, pk_us]))
theorem ws_65 {post : St2 → Prop} {J : Int32 → Int32 → Int32 → Int32 → Int32 → Int32 → (Nat → Int32) → (Nat → Int32) → (Nat → Int32) → (Nat → Int32) → (Nat → Int32) → (Nat → Int32) → (Nat → Int32) → (Nat → Int32) → (Nat → Int32) → (Nat → Int32) → (Nat → Int32) → (Nat → Int32) → (Nat → Int32) → (Nat → Int32) → (Nat → Int32) → Prop} {z0 : Int32}
    (p : ws_P w k a1 a2 a3 a4)
    (H : ∀ b8 b9 b10 b11 b12 b13, b13 0 = nI w → b8 0 = 0 → (b9 0 = if 0 < k then 0 else 1000) → (0 < k → b11 0 = z0 * 64) → J 1 1 1 it 1 fd a1 a2 a3 a4 a5 a6 a7 b8 b9 b10 b11 b12 b13 a14 a15) :
    wX_openLanes_65 post J 1 0 (nI w) z0 1 1 it 0 fd a1 a2 a3 a4 a5 a6 a7 a8 a9 a10 a11 a12 a13 a14 a15 := by
  have v0 : vp_in 0 5 := pk_in 0 5 (by omega)
  unfold wX_openLanes_65
  refine ws_spread p ?_
  refine ⟨?_, ws_nm (if 0 < k then 64 else 128) ?_ ⟨v0, ws_nf (upd a11 0 (z0 * (if 0 < k then 64 else 128))) (by rw [sb_cl0]) ?_⟩⟩
  · by_cases z : 0 < k
    · rw [if_pos z]; decide
    · rw [if_neg z]; decide
  · by_cases z : 0 < k
    · rw [if_pos z, if_pos z]; decide +kernel
    · rw [if_neg z, if_neg z]; decide +kernel
  refine ws_greatest p (fun r => ?_)
  refine ⟨v0, nm_e ⟨v0, ws_nf (upd a13 0 (nI w)) (by rw [sb_cl0]) ⟨v0, ws_nf (upd a8 0 (-2)) (by rw [sb_cl0]) ⟨v0, ws_nf (upd a9 0 (-1)) (by rw [sb_cl0]) (ws_nm 1 (by decide) ?_)⟩⟩⟩⟩
  refine ws_move0 (by decide) p pk_us pk_us pk_us (fun b8 b9 b10 h8 h9 => ?_)
  exact ws_nm 1 (by decide) (H b8 b9 b10 _ _ _ pk_us h8 h9 (fun z => by rw [pk_us, if_pos z]))
theorem ws_open {post : St2 → Prop} (p : ws_P w k a1 a2 a3 a4) (q : ws_I w b it a6 a7)
    (H : ∀ ln' b8 b9 b10 b11 b12 b13, ws_L w k b ln' b8 b9 b11 b13 → post (1, 1, it, ln', fd, a1, a2, a3, a4, a5, a6, a7, b8, b9, b10, b11, b12, b13, a14, a15)) :
    wpX_openLanes post (1, 1, it, ln, fd, a1, a2, a3, a4, a5, a6, a7, a8, a9, a10, a11, a12, a13, a14, a15) := by
  have v0 : vp_in 0 5 := pk_in 0 5 (by omega)
  unfold wpX_openLanes
  refine ws_count ?_
  show ∃ n, wX_openLanes_12 post 1 n 0 1 1 it 0 fd a1 a2 a3 a4 a5 a6 a7 a8 a9 a10 a11 a12 a13 a14 a15
  rcases q with ⟨hi, hb⟩ | ⟨hi, h6, h7, hb, hb10⟩
  · subst hi
    exact ⟨1, br_t (by decide) (H _ _ _ _ _ _ _ (Or.inl ⟨hb, rfl⟩))⟩
  · subst hi
    by_cases z : 0 < b
    · have c7 : a7 (0 : Int32).toNatClampNeg = nI b := by rw [sb_cl0, h7]
      refine ⟨2, br_f (by decide) ⟨v0, br_f (by rw [c7]; exact nI_nle z (by omega)) ⟨v0, ws_nm (nI w) (by rw [sb_cl0, h6]) ⟨v0, br_c (fun g => ⟨v0, ?_⟩) (fun g => ⟨v0, ?_⟩)⟩⟩⟩⟩
      · rw [c7] at g ⊢
        refine ws_65 p (fun b8 b9 b10 b11 b12 b13 h13 h8 h9 h11 => br_t (by decide) (H _ _ _ _ _ _ _ (Or.inr ⟨z, rfl, h13, h8, h9, fun zk => ?_⟩)))
        rw [h11 zk]
        exact ws_bo1 b hb hb10 g
      · rw [c7] at g ⊢
        refine ws_65 p (fun b8 b9 b10 b11 b12 b13 h13 h8 h9 h11 => br_t (by decide) (H _ _ _ _ _ _ _ (Or.inr ⟨z, rfl, h13, h8, h9, fun zk => ?_⟩)))
        rw [h11 zk]
        exact ws_bo2 b hb hb10 g
    · have z0 : b = 0 := by omega
      exact ⟨2, br_f (by decide) ⟨v0, br_t (by rw [sb_cl0, h7, z0]; decide) (ws_nm 1 (by decide) (br_t (by decide) (H _ _ _ _ _ _ _ (Or.inl ⟨z0, rfl⟩))))⟩⟩
end
end
section
/-! scoreOf, matches, matching, score, scoring over the picture -/
section
variable {it ln fd : Int32} {a1 a2 a3 a4 a5 a6 a7 a8 a9 a10 a11 a12 a13 a14 a15 : Nat → Int32} {w k b : Nat}
theorem ws_scoreOf {post : Int32 → Prop} (p : ws_P w k a1 a2 a3 a4) (l : ws_L w k b ln a8 a9 a11 a13) (hp : post (ws_S b k)) : wpX_scoreOf post (1, 1, it, ln, fd, a1, a2, a3, a4, a5, a6, a7, a8, a9, a10, a11, a12, a13, a14, a15) 0 := by
  obtain ⟨hw, hk, h3, h4, h2, h1⟩ := p
  show ∃ n, wX_scoreOf_4 post 0 1 1 it ln fd a1 a2 a3 a4 a5 a6 a7 a8 a9 a10 a11 a12 a13 a14 a15 n 0 0
  rcases l with ⟨hb, hl⟩ | ⟨hb, hl, h13, h8, h9, h11⟩
  · subst hl
    unfold ws_S at hp
    rw [if_neg (by omega)] at hp
    exact ⟨1, br_t (by decide) hp⟩
  · subst hl
    have c13 : a13 (0 : Int32).toNatClampNeg = nI w := by rw [sb_cl0, h13]
    have c3 : a3 ((8 : Int32) * 0 + a13 (0 : Int32).toNatClampNeg).toNatClampNeg = nI k := by
      rw [c13, pk_cl w (ws_80 w), h3 w hw, if_pos rfl]
    have c4 : a4 (0 : Int32).toNatClampNeg = nI k := by rw [sb_cl0, h4]
    have v0 : vp_in 0 5 := pk_in 0 5 (by omega)
    refine ⟨2, br_f (by decide) ⟨v0, v0, pk_in w 192 (by omega) (by rw [c13]; exact ws_80 w), pk_in 0 24 (by omega), ?_⟩⟩
    rw [c3, c4]
    refine ws_strength hk ?_
    refine ws_nm (ws_S b k) ?_ (ws_nm 1 (by decide) (br_t (by decide) hp))
    unfold ws_S
    rw [sb_cl0]
    by_cases z : 0 < k
    · rw [if_pos z, if_pos ⟨hb, z⟩, h11 z, Int32.zero_add]
    · rw [if_neg z, if_neg (by omega), Int32.mul_zero, Int32.zero_add]
theorem ws_m72 {post : Int32 → Prop} {J : Int32 → Int32 → Prop} {x4 : Int32} (h7 : a7 0 = nI b) (hb : b < 20)
    (H0 : x4 = 0 ∨ b = 0 → J 0 1) (H1 : ¬ x4 = 0 → 0 < b → J 1 1) : wX_matches_72 post J 0 0 0 x4 1 1 it ln fd a1 a2 a3 a4 a5 a6 a7 a8 a9 a10 a11 a12 a13 a14 a15 := by
  have v0 : vp_in 0 5 := pk_in 0 5 (by omega)
  have c7 : a7 (0 : Int32).toNatClampNeg = nI b := by rw [sb_cl0, h7]
  refine br_t rfl ⟨v0, ?_⟩
  rw [c7]
  exact pk_le b 0 (fun z => ws_nm 1 (by decide) (H0 (Or.inr (by omega)))) (fun z => br_c (fun g => ws_nm 1 (by decide) (H0 (Or.inl g))) (fun g => ws_nm 1 (by decide) (H1 g z)))
theorem ws_m54 {post : Int32 → Prop} {J : Int32 → Int32 → Prop} {x4 : Int32} (h7 : a7 0 = nI b) (hb : b < 20) (hp : x4 = 0 → post 0)
    (H0 : x4 = 0 ∨ b = 0 → J 0 1) (H1 : ¬ x4 = 0 → 0 < b → J 1 1) : wX_matches_54 post J 0 0 0 x4 1 1 it ln fd a1 a2 a3 a4 a5 a6 a7 a8 a9 a10 a11 a12 a13 a14 a15 := by
  have v0 : vp_in 0 5 := pk_in 0 5 (by omega)
  exact And.intro v0 (br_c (fun _ => ws_m72 h7 hb H0 H1) (fun _ => br_c hp (fun _ => ws_m72 h7 hb H0 H1)))
theorem ws_matches {post : Int32 → Prop} (p : ws_P w k a1 a2 a3 a4) (q : ws_I w b it a6 a7) (hp : post (if 0 < b ∧ 0 < k then 1 else 0)) : wpX_matches post (1, 1, it, ln, fd, a1, a2, a3, a4, a5, a6, a7, a8, a9, a10, a11, a12, a13, a14, a15) 0 := by
  obtain ⟨hw, hk, h3, h4, h2, h1⟩ := p
  have v0 : vp_in 0 5 := pk_in 0 5 (by omega)
  show ∃ n, wX_matches_4 post 0 1 1 it ln fd a1 a2 a3 a4 a5 a6 a7 a8 a9 a10 a11 a12 a13 a14 a15 n 0 0
  rcases q with ⟨hi, hb⟩ | ⟨hi, h6, h7, hb, hb10⟩
  · subst hi
    rw [if_neg (by omega)] at hp
    exact ⟨1, br_t (by decide) ⟨rfl, hp⟩⟩
  · subst hi
    have c6 : a6 (0 : Int32).toNatClampNeg = nI w := by rw [sb_cl0, h6]
    have c3 : a3 ((8 : Int32) * 0 + a6 (0 : Int32).toNatClampNeg).toNatClampNeg = nI k := by
      rw [c6, pk_cl w (ws_80 w), h3 w hw, if_pos rfl]
    have c7 : a7 (0 : Int32).toNatClampNeg = nI b := by rw [sb_cl0, h7]
    refine ⟨2, br_f (by decide) ⟨v0, pk_in w 192 (by omega) (by rw [c6]; exact ws_80 w), ?_⟩⟩
    rw [c3]
    by_cases z : 0 < k
    · refine br_f (nI_nle z (by omega)) ?_
      by_cases y : 0 < b
      · rw [if_pos ⟨y, z⟩] at hp
        refine And.intro v0 (br_f (by rw [c7]; exact nI_ne0 y (by omega)) ?_)
        exact ws_m54 h7 hb (fun g => absurd g (by decide)) (fun g => absurd g (by intro g; rcases g with g | g; exact absurd g (by decide); omega)) (fun _ _ => br_t (by decide) ⟨rfl, hp⟩)
      · rw [if_neg (by omega)] at hp
        exact And.intro v0 (br_t (by rw [c7, show b = 0 by omega]; decide) (br_f (by decide) hp))
    · rw [if_neg (by omega)] at hp
      refine br_t (by rw [show k = 0 by omega]; decide) ?_
      have X : wX_matches_54 post (wX_matches_4 post 0 1 1 1 ln fd a1 a2 a3 a4 a5 a6 a7 a8 a9 a10 a11 a12 a13 a14 a15 1) 0 0 0 0 1 1 1 ln fd a1 a2 a3 a4 a5 a6 a7 a8 a9 a10 a11 a12 a13 a14 a15 :=
        ws_m54 h7 hb (fun _ => hp) (fun _ => br_t (by decide) ⟨rfl, hp⟩) (fun g => absurd rfl g)
      exact And.intro v0 (br_c (fun _ => br_t rfl X) (fun _ => X))
theorem ws_matching {post : Int32 → Prop} (p : ws_P w k a1 a2 a3 a4) (q : ws_I w b it a6 a7) (hp : post (if 0 < b ∧ 0 < k then 1 else 0)) : wpX_matching post (1, 1, it, ln, fd, a1, a2, a3, a4, a5, a6, a7, a8, a9, a10, a11, a12, a13, a14, a15) := by
  show ∃ n, wX_matching_4 post 1 1 it ln fd a1 a2 a3 a4 a5 a6 a7 a8 a9 a10 a11 a12 a13 a14 a15 n 0 0
  refine ⟨2, br_f (by decide) (ws_live0 (br_f (by decide) (ws_matches p q ?_)))⟩
  by_cases z : 0 < b ∧ 0 < k
  · rw [if_pos z] at hp ⊢
    exact br_f (by decide) (ws_nm 1 (by decide) (ws_nm 1 (by decide) (br_t (by decide) hp)))
  · rw [if_neg z] at hp ⊢
    exact br_t rfl (ws_nm 0 (by decide) (ws_nm 1 (by decide) (br_t (by decide) hp)))
theorem ws_score0 {post : Int32 → St2 → Prop} (p : ws_P w k a1 a2 a3 a4) (q : ws_I w b it a6 a7)
    (H : ∀ ln' b8 b9 b10 b11 b12 b13, post (ws_S b k) (1, 1, it, ln', fd, a1, a2, a3, a4, a5, a6, a7, b8, b9, b10, b11, b12, b13, a14, a15)) : wpX_score post (1, 1, it, ln, fd, a1, a2, a3, a4, a5, a6, a7, a8, a9, a10, a11, a12, a13, a14, a15) 0 := by
  unfold wpX_score
  refine ws_live0 (br_f (by decide) (ws_open p q (fun ln' b8 b9 b10 b11 b12 b13 l => ?_)))
  exact ws_scoreOf p l (H ln' b8 b9 b10 b11 b12 b13)
theorem ws_scoreN {post : Int32 → St2 → Prop} {x : Int32} (hx : ¬ x = 0) (H : post (-1) (1, 1, it, ln, fd, a1, a2, a3, a4, a5, a6, a7, a8, a9, a10, a11, a12, a13, a14, a15)) : wpX_score post (1, 1, it, ln, fd, a1, a2, a3, a4, a5, a6, a7, a8, a9, a10, a11, a12, a13, a14, a15) x := by
  unfold wpX_score
  exact ws_liveN hx (br_t rfl H)
/-- no lane, or a lane at the end -/
theorem ws_leastE {post : Int32 → Prop} (h : ln = 0 ∨ (ln = 1 ∧ a9 0 = 1000)) (hp : post 1000) : wpX_leastDocument post (1, 1, it, ln, fd, a1, a2, a3, a4, a5, a6, a7, a8, a9, a10, a11, a12, a13, a14, a15) := by
  have v0 : vp_in 0 5 := pk_in 0 5 (by omega)
  show ∃ n, wX_leastDocument_6 post 1 1 it ln fd a1 a2 a3 a4 a5 a6 a7 a8 a9 a10 a11 a12 a13 a14 a15 n 1000 0
  rcases h with h | ⟨h, h9⟩
  · subst h
    exact ⟨1, br_t (by decide) hp⟩
  · subst h
    exact ⟨2, br_f (by decide) ⟨v0, br_t (by rw [sb_cl0, h9]; decide) (ws_nm 1 (by decide) (br_t (by decide) hp))⟩⟩
theorem ws_least0 {post : Int32 → Prop} (h9 : a9 0 = 0) (hp : post 0) : wpX_leastDocument post (1, 1, it, 1, fd, a1, a2, a3, a4, a5, a6, a7, a8, a9, a10, a11, a12, a13, a14, a15) := by
  have v0 : vp_in 0 5 := pk_in 0 5 (by omega)
  show ∃ n, wX_leastDocument_6 post 1 1 it 1 fd a1 a2 a3 a4 a5 a6 a7 a8 a9 a10 a11 a12 a13 a14 a15 n 1000 0
  exact ⟨2, br_f (by decide) ⟨v0, br_f (by rw [sb_cl0, h9]; decide) ⟨v0, ws_nm 0 (by rw [sb_cl0, h9]) (ws_nm 1 (by decide) (br_t (by decide) hp))⟩⟩⟩
/-- after document 0 was looked at, the lane goes to the end, and the search is over -/
theorem ws_56 {post : Int32 → St2 → Prop} {x1 x2 : Int32} (p : ws_P w k a1 a2 a3 a4) (hk : 0 < k) (h13 : a13 0 = nI w) (h8 : a8 0 = 0) (h9 : a9 0 = 0) (H : ∀ u, post x2 u) :
    ∃ n, wX_scoring_56 post (wX_scoring_8 post x1 1) x1 x2 0 0 n 0 1 1 it 1 fd a1 a2 a3 a4 a5 a6 a7 a8 a9 a10 a11 a12 a13 a14 a15 := by
  obtain ⟨hw, _, h3, h4, h2, h1⟩ := p
  rw [if_pos hk] at h2
  refine ⟨2, br_f (by decide) ?_⟩
  refine ws_moveB rfl hw h13 (by rw [h9]; decide) (by rw [h9]; decide) (by rw [h8, h2]; decide) ?_
  refine ws_nm 1 (by decide) (br_t (by decide) (ws_nm 1 (by decide) ?_))
  refine br_f (by decide) ?_
  exact ws_leastE (Or.inr ⟨rfl, pk_us⟩) (br_t rfl (H _))
theorem ws_scoring {post : Int32 → St2 → Prop} {x1 : Int32} (p : ws_P w k a1 a2 a3 a4) (q : ws_I w b it a6 a7)
    (H0 : ¬ (0 < b ∧ 0 < k) ∨ ws_S b k < x1 → ∀ u, post 0 u) (H1 : 0 < b ∧ 0 < k → ¬ ws_S b k < x1 → ∀ u, post 1 u) : wpX_scoring post (1, 1, it, ln, fd, a1, a2, a3, a4, a5, a6, a7, a8, a9, a10, a11, a12, a13, a14, a15) x1 := by
  unfold wpX_scoring
  refine ws_open p q (fun ln' b8 b9 b10 b11 b12 b13 l => ?_)
  refine ⟨2, br_f (by decide) ?_⟩
  by_cases z : 0 < b ∧ 0 < k
  · have l0 := l
    rcases l with ⟨hb, _⟩ | ⟨hb, hl, h13, h8, h9, h11⟩
    · exact absurd hb (by omega)
    · subst hl
      rw [if_pos z.2] at h9
      refine ws_least0 h9 (br_f (by decide) (ws_matches p q ?_))
      rw [if_pos z]
      refine br_f (by decide) (ws_scoreOf p l0 (br_c (fun g => ?_) (fun g => ?_)))
      · exact ws_56 p z.2 h13 h8 h9 (H0 (Or.inr g))
      · exact ws_nm 1 (by decide) (ws_56 p z.2 h13 h8 h9 (H1 z g))
  · refine ws_leastE ?_ (br_t rfl (H0 (Or.inl z) _))
    rcases l with ⟨hb, hl⟩ | ⟨hb, hl, h13, h8, h9, h11⟩
    · exact Or.inl hl
    · exact Or.inr ⟨hl, by rw [h9, if_neg (by omega)]⟩
end
end
section
/-! the law, from its end to its begin -/
section
variable {post : Int32 → St0 → Prop} {mc ms kc ks : Nat} {it ln fd x0 x1 x2 x3 x4 x6 x7 x8 x9 x10 x11 z : Int32} {a1 a2 a3 a4 a5 a6 a7 a8 a9 a10 a11 a12 a13 a14 a15 : Nat → Int32} {w k b : Nat}
theorem ws_254 (hp : post 1 ()) (p : ws_P w k a1 a2 a3 a4) (q : ws_I w b it a6 a7) (h10 : x10 = if 0 < b ∧ 0 < k then 1 else 0) (h11 : x11 = ws_S b k) :
    wL_lawOf_254 post mc ms x4 x10 x11 z z kc ks 1 1 it ln fd a1 a2 a3 a4 a5 a6 a7 a8 a9 a10 a11 a12 a13 a14 a15 := by
  refine br_t rfl (ws_scoring p q (fun h u => ?_) (fun h g u => ?_))
  · obtain ⟨_, _, _, _, _, _, _, _, _, _, _, _, _, _, _, _, _, _, _, _⟩ := u
    by_cases y : 0 < b ∧ 0 < k
    · rw [if_pos y] at h10
      have g : x11 < x4 := by
        rw [h11]
        exact h.resolve_left (fun n => n y)
      exact br_f (by rw [h10]; decide) (br_t g (br_t rfl hp))
    · rw [if_neg y] at h10
      exact br_t h10 (br_t rfl hp)
  · obtain ⟨_, _, _, _, _, _, _, _, _, _, _, _, _, _, _, _, _, _, _, _⟩ := u
    rw [if_pos h] at h10
    exact br_f (by rw [h10]; decide) (br_f (by rw [h11]; exact g) (br_t rfl hp))
theorem ws_234 (hp : post 1 ()) (p : ws_P w k a1 a2 a3 a4) (q : ws_I w b it a6 a7) (h10 : x10 = if 0 < b ∧ 0 < k then 1 else 0) (h11 : x11 = ws_S b k) :
    wL_lawOf_234 post mc ms x4 x10 x11 z z kc ks 1 1 it ln fd a1 a2 a3 a4 a5 a6 a7 a8 a9 a10 a11 a12 a13 a14 a15 := by
  refine br_t rfl (ws_matching p q ?_)
  rw [← h10]
  by_cases y : x10 = 0
  · refine br_t y ?_
    rw [show (0 : Int32) = x10 from y.symm]
    exact ws_254 hp p q h10 h11
  · have e : x10 = 1 := by
      by_cases g : 0 < b ∧ 0 < k
      · rw [h10, if_pos g]
      · rw [if_neg g] at h10
        exact absurd h10 y
    refine br_f y ?_
    have t : wL_lawOf_254 post mc ms x4 x10 x11 x10 x10 kc ks 1 1 it ln fd a1 a2 a3 a4 a5 a6 a7 a8 a9 a10 a11 a12 a13 a14 a15 := ws_254 hp p q h10 h11
    rw [e] at t ⊢
    exact t
theorem ws_216 (hp : post 1 ()) (p : ws_P w k a1 a2 a3 a4) (q : ws_I w b it a6 a7) (h10 : x10 = if 0 < b ∧ 0 < k then 1 else 0) (hz : z = ws_S b k) :
    wL_lawOf_216 post mc ms x3 x4 x10 z kc ks 1 1 it ln fd a1 a2 a3 a4 a5 a6 a7 a8 a9 a10 a11 a12 a13 a14 a15 := by
  unfold wL_lawOf_216
  by_cases h : x3 = 0
  · subst h
    refine ws_score0 p q (fun ln' b8 b9 b10 b11 b12 b13 => br_t rfl ?_)
    rw [← hz]
    exact ws_234 hp p q h10 hz
  · exact ws_scoreN h (br_f h (ws_234 hp p q h10 hz))
theorem ws_180 (hp : post 1 ()) (p : ws_P w k a1 a2 a3 a4) (q : ws_I w b it a6 a7) (h : ¬ (0 < b ∧ 0 < k)) :
    wL_lawOf_180 post mc ms x2 x3 x4 x8 kc ks 1 1 it ln fd a1 a2 a3 a4 a5 a6 a7 a8 a9 a10 a11 a12 a13 a14 a15 := by
  unfold wL_lawOf_180
  exact br_t rfl (ws_216 hp p q (by rw [if_neg h]) (by unfold ws_S; rw [if_neg h]))
theorem ws_181 (hp : post 1 ()) (p : ws_P w k a1 a2 a3 a4) (q : ws_I w b it a6 a7) (h : 0 < b ∧ 0 < k) :
    wL_lawOf_181 post mc ms (nI b) x3 x4 (nI k) 1 kc ks 1 1 it ln fd a1 a2 a3 a4 a5 a6 a7 a8 a9 a10 a11 a12 a13 a14 a15 :=
  br_f (by decide) ⟨by decide, by decide, ws_E0 k p.2.1, ws_216 hp p q (by rw [if_pos h]) (by unfold ws_S; rw [if_pos h]; rfl)⟩
theorem ws_152 (hp : post 1 ()) (p : ws_P w k a1 a2 a3 a4) (q : ws_I w b it a6 a7) (hb : b < 20)
    (h : (b = 0 ∧ (x6 = 0 ∨ x9 = 0)) ∨ (¬ x6 = 0 ∧ ¬ x9 = 0 ∧ x2 = nI b)) :
    wL_lawOf_152 post mc ms x2 x3 x4 x6 (nI k) x9 z z kc ks 1 1 it ln fd a1 a2 a3 a4 a5 a6 a7 a8 a9 a10 a11 a12 a13 a14 a15 := by
  refine br_t rfl ?_
  rcases h with ⟨h0, h⟩ | ⟨h6, h9, h2⟩
  · have n : ¬ (0 < b ∧ 0 < k) := by omega
    by_cases g6 : x6 = 0
    · exact br_t g6 (ws_180 hp p q n)
    · exact br_f g6 (br_t (h.resolve_left g6) (ws_180 hp p q n))
  · subst h2
    have hk := p.2.1
    refine br_f h6 (br_f h9 ?_)
    exact pk_le b 0 (fun g => ws_180 hp p q (by omega)) (fun g => pk_le k 0 (fun g2 => ws_180 hp p q (by omega)) (fun g2 => ws_181 hp p q ⟨g, g2⟩))
theorem ws_7lt {x : Int32} (h : nI 8 ≤ x) : (7 : Int32) < x := by
  rw [Int32.lt_iff_toInt_lt]
  rw [Int32.le_iff_toInt_le, nI_toInt (by omega)] at h
  have e : (7 : Int32).toInt = 7 := by decide
  omega
theorem ws_19lt {x : Int32} (h : nI 20 ≤ x) : (19 : Int32) < x := by
  rw [Int32.lt_iff_toInt_lt]
  rw [Int32.le_iff_toInt_le, nI_toInt (by omega)] at h
  have e : (19 : Int32).toInt = 19 := by decide
  omega
theorem ws_n0 {n : Nat} (h : n < 2 ^ 31) : ¬ nI n < 0 := nI_pos h
theorem ws_word0 {P : Int32 → Prop} (h : x0 < 0 ∨ nI 8 ≤ x0) (hp : P 0) : wpX_isWord P () x0 := by
  unfold wpX_isWord
  rcases h with h | h
  · exact br_t h hp
  · exact br_c (fun _ => hp) (fun _ => br_t h hp)
theorem ws_word1 {P : Int32 → Prop} (hw : w < 8) (hp : P 1) : wpX_isWord P () (nI w) :=
  br_f (nI_pos (by omega)) (br_f (nI_ge (b := 8) hw (by omega)) hp)
/-- the word as the law sees it: bad (then k = 0), or w -/
def ws_G (w k : Nat) (x0 x6 : Int32) : Prop := (x6 = 0 ∧ k = 0 ∧ (x0 < 0 ∨ nI 8 ≤ x0)) ∨ (x6 = 1 ∧ x0 = nI w)
theorem ws_123n (hp : post 1 ()) (p : ws_P w k a1 a2 a3 a4) (g : ws_G w k x0 x6) (hx : x2 < 0 ∨ 19 < x2 ∨ x2 = 10) :
    wL_lawOf_123 post mc ms x0 x2 x3 x4 x6 (nI k) 0 kc ks 1 1 0 ln fd a1 a2 a3 a4 a5 a6 a7 a8 a9 a10 a11 a12 a13 a14 a15 := by
  have q : ws_I w 0 0 a6 a7 := Or.inl ⟨rfl, rfl⟩
  unfold wL_lawOf_123 wpX_item
  rcases g with ⟨h6, _, h0⟩ | ⟨h6, h0⟩
  · exact ws_word0 h0 (br_t rfl (br_t h6 (ws_152 hp p q (by omega) (Or.inl ⟨rfl, Or.inl h6⟩))))
  · have t : wL_lawOf_152 post mc ms x2 x3 x4 x6 (nI k) 0 (-2) (-2) kc ks 1 1 0 ln fd a1 a2 a3 a4 a5 a6 a7 a8 a9 a10 a11 a12 a13 a14 a15 := ws_152 hp p q (by omega) (Or.inl ⟨rfl, Or.inr rfl⟩)
    have n6 : ¬ x6 = 0 := by rw [h6]; decide
    subst h0
    refine ws_word1 p.1 (br_f (by decide) ?_)
    rcases hx with h | h | h
    · exact br_t h (br_f n6 (br_t rfl t))
    · exact br_c (fun _ => br_f n6 (br_t rfl t)) (fun _ => br_t h (br_f n6 (br_t rfl t)))
    · exact br_c (fun _ => br_f n6 (br_t rfl t)) (fun _ => br_c (fun _ => br_f n6 (br_t rfl t)) (fun _ => br_t h (br_f n6 (br_t rfl t))))
theorem ws_123y (hp : post 1 ()) (p : ws_P w k a1 a2 a3 a4) (g : ws_G w k x0 x6) (hb : b < 20) (hb10 : b ≠ 10) :
    wL_lawOf_123 post mc ms x0 (nI b) x3 x4 x6 (nI k) 1 kc ks 1 1 0 ln fd a1 a2 a3 a4 a5 a6 a7 a8 a9 a10 a11 a12 a13 a14 a15 := by
  unfold wL_lawOf_123 wpX_item
  rcases g with ⟨h6, hk, h0⟩ | ⟨h6, h0⟩
  · exact ws_word0 h0 (br_t rfl (br_t h6 (ws_152 (b := 0) hp p (Or.inl ⟨rfl, rfl⟩) (by omega) (Or.inl ⟨rfl, Or.inl h6⟩))))
  · have n6 : ¬ x6 = 0 := by rw [h6]; decide
    have v0 : vp_in 0 5 := pk_in 0 5 (by omega)
    subst h0
    refine ws_word1 p.1 (br_f (by decide) (br_f (nI_pos (by omega)) (br_f (nI_nlt (a := 19) (b := b) (by omega) (by omega)) (br_f (fun e => hb10 ((nI_eq (b := 10) (by omega) (by omega)).mp e)) ?_))))
    refine ws_place (br_f (by decide) (br_f (by decide) (ws_nm 1 (by decide) ?_)))
    refine And.intro v0 (ws_nf (upd a6 0 (nI w)) (by rw [sb_cl0]) ⟨v0, ws_nf (upd a7 0 (nI b)) (by rw [sb_cl0]) ?_⟩)
    exact br_f n6 (br_f (by decide) (ws_152 hp p (Or.inr ⟨rfl, pk_us, pk_us, hb, hb10⟩) hb (Or.inr ⟨n6, by decide, rfl⟩)))
theorem ws_87 (hp : post 1 ()) (hw : w < 8) (hk : k < 8) (h5 : ws_D w k a5) (h2 : ∀ t, t < 8 → a2 t = 0) (g : ws_G w k x0 x6) :
    wL_lawOf_87 post mc ms x0 x2 x3 x4 x6 (nI k) z z kc ks 0 0 0 ln fd a1 a2 a3 a4 a5 a6 a7 a8 a9 a10 a11 a12 a13 a14 a15 := by
  refine br_t rfl (ws_add hw hk h5 h2 (fun b1 b2 b3 b4 p => br_t rfl ?_))
  have N : x2 < 0 ∨ 19 < x2 ∨ x2 = 10 → wL_lawOf_122 post mc ms x0 x2 x3 x4 x6 (nI k) kc ks 1 1 0 ln fd b1 b2 b3 b4 a5 a6 a7 a8 a9 a10 a11 a12 a13 a14 a15 := fun h => ws_123n hp p g h
  refine br_c (fun h => N (Or.inl h)) (fun n1 => br_c (fun h => N (Or.inr (Or.inl h))) (fun n2 => br_c (fun h => N (Or.inr (Or.inr h))) (fun n3 => ?_)))
  rcases pk_ix x2 (n := 20) (by omega) with h | h | ⟨j, hj, e⟩
  · exact absurd h n1
  · exact absurd (ws_19lt h) n2
  · subst e
    exact ws_123y hp p g hj (fun e => n3 (by rw [e]; rfl))
end
/-- a law's write, over the state that the constructor leaves -/
theorem ws_58 {post : Int32 → St0 → Prop} {mc ms kc ks : Nat} {x0 x1 x2 x3 x4 x6 x7 : Int32} {w k : Nat} (hp : post 1 ()) (hw : w < 8) (hk : k < 8)
    (h : (x6 = 0 ∧ k = 0 ∧ (x0 < 0 ∨ nI 8 ≤ x0)) ∨ (x6 = 1 ∧ x0 = nI w ∧ x7 = 0 ∧ k = 0 ∧ (x1 < 0 ∨ nI 8 ≤ x1)) ∨ (x6 = 1 ∧ x0 = nI w ∧ x7 = 1 ∧ x1 = nI k)) :
    wL_lawOf_58 post mc ms x0 x1 x2 x3 x4 x6 x7 (nI k) kc ks 0 0 0 0 0 (fun _ => 0) (fun _ => 0) (fun _ => 0) (fun _ => 0) (fun _ => 0) (fun _ => 0) (fun _ => 0) (fun _ => 0) (fun _ => 0) (fun _ => 0) (fun _ => 0) (fun _ => 0) (fun _ => 0) (fun _ => 0) (fun _ => 0) := by
  have Z : k = 0 → ws_D w k (fun _ => 0) := fun e j hj => by
    subst e
    by_cases g : j = w
    · rw [if_pos g]; rfl
    · rw [if_neg g]
  unfold wL_lawOf_58 wpX_write
  rcases h with ⟨h6, h0, hx⟩ | ⟨h6, hx, h7, h0, h1⟩ | ⟨h6, hx, h7, h1⟩
  · exact ws_word0 hx (br_t rfl (br_t h6 (ws_87 hp hw hk (Z h0) (fun t ht => rfl) (Or.inl ⟨h6, h0, hx⟩))))
  · have n6 : ¬ x6 = 0 := by rw [h6]; decide
    have T : wL_lawOf_87 post mc ms x0 x2 x3 x4 x6 (nI k) (-2) (-2) kc ks 0 0 0 0 0 (fun _ => 0) (fun _ => 0) (fun _ => 0) (fun _ => 0) (fun _ => 0) (fun _ => 0) (fun _ => 0) (fun _ => 0) (fun _ => 0) (fun _ => 0) (fun _ => 0) (fun _ => 0) (fun _ => 0) (fun _ => 0) (fun _ => 0) := ws_87 hp hw hk (Z h0) (fun t ht => rfl) (Or.inr ⟨h6, hx⟩)
    subst hx
    refine ws_word1 hw (br_f (by decide) ?_)
    rcases h1 with h1 | h1
    · exact br_t h1 (br_f n6 (br_t h7 T))
    · refine br_c (fun _ => br_f n6 (br_t h7 T)) (fun _ => br_f (fun g => ?_) (br_f n6 (br_t h7 T)))
      exact absurd (ws_7lt h1) (Int32.not_lt.mpr g)
  · have n6 : ¬ x6 = 0 := by rw [h6]; decide
    have n7 : ¬ x7 = 0 := by rw [h7]; decide
    subst h1
    have D : ws_D w k (upd (fun _ => 0) w (nI k)) := fun j hj => by
      by_cases g : j = w
      · rw [if_pos g, g, pk_us]
      · rw [if_neg g, pk_un g]
    subst hx
    refine ws_word1 hw (br_f (by decide) (br_f (nI_pos (by omega)) (br_t (nI_le (b := 7) (by omega) (by omega)) ⟨pk_in w 8 hw, ws_nf (upd (fun _ => 0) w (nI k)) (by rw [nI_clamp (by omega)]) ?_⟩)))
    exact ws_draft hw D (br_f n6 (br_f n7 (ws_87 hp hw hk D (fun t ht => rfl) (Or.inr ⟨h6, rfl⟩))))
theorem ws_lawOf {post : Int32 → St0 → Prop} {x0 x1 x2 x3 x4 : Int32} (hp : post 1 ()) : wpL_lawOf post 240 3840 () x0 x1 x2 x3 x4 := by
  refine And.intro (by omega) ⟨by omega, 15, 676, by omega, by omega, ?_⟩
  refine And.intro (by omega) ⟨by omega, by omega, by omega, by omega, by omega, by omega, by omega, by omega, by omega, by omega, by omega, by omega, by omega, by omega, by omega, by omega, by omega, by omega, by omega, by omega, by omega, by omega, by omega, by omega, by omega, by omega, by omega, by omega, by omega, ?_⟩
  have B : ∀ x7 : Int32, x0 < 0 ∨ nI 8 ≤ x0 → wL_lawOf_57 post 240 3840 x0 x1 x2 x3 x4 0 x7 (1 + 15) (20 + 676) 0 0 0 0 0 (fun _ => 0) (fun _ => 0) (fun _ => 0) (fun _ => 0) (fun _ => 0) (fun _ => 0) (fun _ => 0) (fun _ => 0) (fun _ => 0) (fun _ => 0) (fun _ => 0) (fun _ => 0) (fun _ => 0) (fun _ => 0) (fun _ => 0) :=
    fun x7 h => ws_58 (w := 0) (k := 0) hp (by omega) (by omega) (Or.inl ⟨rfl, rfl, h⟩)
  have B2 : x0 < 0 ∨ nI 8 ≤ x0 → wL_lawOf_23 post 240 3840 x0 x1 x2 x3 x4 (1 + 15) (20 + 676) 0 0 0 0 0 (fun _ => 0) (fun _ => 0) (fun _ => 0) (fun _ => 0) (fun _ => 0) (fun _ => 0) (fun _ => 0) (fun _ => 0) (fun _ => 0) (fun _ => 0) (fun _ => 0) (fun _ => 0) (fun _ => 0) (fun _ => 0) (fun _ => 0) := fun h =>
    br_c (fun _ => br_t rfl (B 0 h)) (fun _ => br_c (fun _ => br_t rfl (B 0 h)) (fun _ => br_t rfl (B 1 h)))
  rcases pk_ix x0 (n := 8) (by omega) with h | h | ⟨w, hw, e⟩
  · exact br_t h (B2 (Or.inl h))
  · exact br_c (fun _ => B2 (Or.inr h)) (fun _ => br_t (ws_7lt h) (B2 (Or.inr h)))
  · subst e
    refine br_f (nI_pos (by omega)) (br_f (nI_nlt (a := 7) (b := w) (by omega) (by omega)) ?_)
    have C : x1 < 0 ∨ nI 8 ≤ x1 → wL_lawOf_40 post 240 3840 (nI w) x1 x2 x3 x4 1 (1 + 15) (20 + 676) 0 0 0 0 0 (fun _ => 0) (fun _ => 0) (fun _ => 0) (fun _ => 0) (fun _ => 0) (fun _ => 0) (fun _ => 0) (fun _ => 0) (fun _ => 0) (fun _ => 0) (fun _ => 0) (fun _ => 0) (fun _ => 0) (fun _ => 0) (fun _ => 0) := fun h =>
      br_f (by decide) (br_t rfl (ws_58 (w := w) (k := 0) hp hw (by omega) (Or.inr (Or.inl ⟨rfl, rfl, rfl, rfl, h⟩))))
    rcases pk_ix x1 (n := 8) (by omega) with h | h | ⟨k, hk, e⟩
    · exact br_t h (C (Or.inl h))
    · exact br_c (fun _ => C (Or.inr h)) (fun _ => br_t (ws_7lt h) (C (Or.inr h)))
    · subst e
      exact br_f (nI_pos (by omega)) (br_f (nI_nlt (a := 7) (b := k) (by omega) (by omega)) (br_f (by decide) (br_f (by decide) (ws_58 (w := w) (k := k) hp hw hk (Or.inr (Or.inr ⟨rfl, rfl, rfl, rfl⟩))))))
theorem ws_cell {post : Int32 → Prop} {L : Nat} {xs : Nat → Int32} (hL : L ≤ 5) (i : Nat) (hi : i < 5) (hp : ∀ r, post r) : wpL_cellAt post L xs () (nI i) :=
  pk_le L i (fun _ => hp _) (fun z => ⟨pk_in i L z, hp _⟩)
end
section
theorem i_vc (xs : Nat → Int32) (L : Nat) (hL : L ≤ 5) : wpL_law (fun r => r = 1) L xs := by
  unfold wpL_law
  refine ws_cell hL 0 (by omega) (fun r1 => ws_cell hL 1 (by omega) (fun r2 => ws_cell hL 2 (by omega) (fun r3 => ws_cell hL 3 (by omega) (fun r4 => ws_cell hL 4 (by omega) (fun r5 => ?_)))))
  exact ⟨240, 3840, by omega, by omega, ws_lawOf rfl⟩
end
