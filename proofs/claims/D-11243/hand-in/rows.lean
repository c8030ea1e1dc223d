section
/-! ===== TransactionCaches: tables over small numbers ===== -/
theorem tc_ln : ∀ d, d < 4 → ∀ x, x < 16 → nI d * 4 + (nI x &&& 3) = nI (d * 4 + x % 4) := by decide +kernel
theorem tc_b8 : ∀ x, x < 32 → (nI x).toInt8.toInt32 = nI x := by decide +kernel
theorem tc_b1 : ∀ x, x < 32 → (nI x + 1).toInt8.toInt32 = nI (x + 1) := by decide +kernel
theorem tc_bm : ∀ x, x < 32 → (nI (x + 1) - 1).toInt8.toInt32 = nI x := by decide +kernel
theorem tc_z : ∀ x, x < 16 → ((0 : Int32) >>> (nI x &&& 31)) &&& 1 = 0 := by decide +kernel
theorem tc_bit : ∀ x, x < 16 → ∀ y, y < 16 → ((((1 : Int32) <<< (nI x &&& 31)) >>> (nI y &&& 31)) &&& 1 = 0 ↔ x ≠ y) := by decide +kernel
theorem tc_c2 : (2 : Int32).toNatClampNeg = 2 := by decide
theorem tc_in2 : vp_in 2 4 := vp_in_nI (n := 2) (N := 4) (by decide) (by decide)
theorem tc_z0 : (0 : Int32) ||| 0 = 0 := by decide
/-! ===== the picture: V says what each cell holds ===== -/
/-- line i of core 2 (place 8 + i): empty, or changed, with a tag of its own -/
def tc_F (a2 a3 : Nat → Int32) (i : Nat) : Prop := a3 (8 + i) = 0 ∨ (a3 (8 + i) = 3 ∧ ∃ t, t < 16 ∧ t % 4 = i ∧ a2 (8 + i) = nI t)
/-- the newest value of cell z -/
def tc_V (a1 a2 a3 a4 : Nat → Int32) (z : Nat) : Int32 := if a3 (8 + z % 4) = 3 ∧ a2 (8 + z % 4) = nI z then a4 (8 + z % 4) else a1 z
/-- between calls -/
def tc_P (V a1 a2 a3 a4 : Nat → Int32) : Prop := (∀ j, j < 16 → (j < 8 ∨ 12 ≤ j) → a3 j = 0) ∧ (∀ i, i < 4 → tc_F a2 a3 i) ∧ (∀ z, z < 16 → tc_V a1 a2 a3 a4 z = V z)
/-- behind a fetch of cell x, ahead of its store -/
def tc_Q (V a1 a2 a3 a4 : Nat → Int32) (x : Nat) : Prop := (∀ j, j < 16 → (j < 8 ∨ 12 ≤ j) → a3 j = 0) ∧ (∀ i, i < 4 → i ≠ x % 4 → tc_F a2 a3 i) ∧ ¬ a3 (8 + x % 4) = 1 ∧ a2 (8 + x % 4) = nI x ∧ (∀ z, z < 16 → z ≠ x → tc_V a1 a2 a3 a4 z = V z)
theorem tc_P0 : tc_P (fun _ => 0) (fun _ => 0) (fun _ => 0) (fun _ => 0) (fun _ => 0) := by
  refine ⟨fun _ _ _ => rfl, fun _ _ => Or.inl rfl, fun z _ => ?_⟩
  unfold tc_V
  split <;> rfl
theorem tc_ne {x z : Nat} (hx : x < 16) (hz : z < 16) (n : z ≠ x) : ¬ nI x = nI z := by
  intro e
  exact n ((nI_eq (by omega) (by omega)).mp e).symm
theorem tc_QP {V a1 a2 a3 a4 : Nat → Int32} {x : Nat} {v : Int32} (h : tc_Q V a1 a2 a3 a4 x) (hx : x < 16) : tc_P (upd V x v) a1 a2 (upd a3 (8 + x % 4) 3) (upd a4 (8 + x % 4) v) := by
  obtain ⟨h1, h2, h3, h4, h5⟩ := h
  refine ⟨fun j hj ho => ?_, fun i hi => ?_, fun z hz => ?_⟩
  · rw [pk_un (by omega)]
    exact h1 j hj ho
  · by_cases e : i = x % 4
    · subst e
      exact Or.inr ⟨pk_us, x, hx, rfl, h4⟩
    · have h6 := h2 i hi e
      unfold tc_F at h6 ⊢
      rw [pk_un (show 8 + i ≠ 8 + x % 4 by omega)]
      exact h6
  · by_cases e : z = x
    · subst e
      rw [pk_us]
      unfold tc_V
      rw [pk_us, pk_us]
      exact if_pos ⟨rfl, h4⟩
    · rw [pk_un e, ← h5 z hz e]
      unfold tc_V
      by_cases e4 : z % 4 = x % 4
      · rw [e4, h4, if_neg (fun t => tc_ne hx hz e t.2), if_neg (fun t => tc_ne hx hz e t.2)]
      · rw [pk_un (show 8 + z % 4 ≠ 8 + x % 4 by omega), pk_un (show 8 + z % 4 ≠ 8 + x % 4 by omega)]
theorem tc_PQ {V a1 a2 a3 a4 : Nat → Int32} {x : Nat} (h : tc_P V a1 a2 a3 a4) (n0 : ¬ a3 (8 + x % 4) = 0) (e : a2 (8 + x % 4) = nI x) : tc_Q V a1 a2 a3 a4 x := by
  obtain ⟨h1, h2, h3⟩ := h
  refine ⟨h1, fun i hi _ => h2 i hi, ?_, e, fun z hz _ => h3 z hz⟩
  rcases h2 (x % 4) (by omega) with g | g
  · exact absurd g n0
  · rw [g.1]
    decide
theorem tc_PQ2 {V a1 a2 a3 a4 b1 : Nat → Int32} {x : Nat} {w : Int32} (h : tc_P V a1 a2 a3 a4) (k1 : ∀ z, z < 16 → z % 4 = x % 4 → z ≠ x → b1 z = V z) (k2 : ∀ z, z < 16 → z % 4 ≠ x % 4 → b1 z = a1 z) :
    tc_Q V b1 (upd a2 (8 + x % 4) (nI x)) (upd a3 (8 + x % 4) 2) (upd a4 (8 + x % 4) w) x := by
  obtain ⟨h1, h2, h3⟩ := h
  refine ⟨fun j hj ho => ?_, fun i hi ni => ?_, ?_, pk_us, fun z hz nz => ?_⟩
  · rw [pk_un (by omega)]
    exact h1 j hj ho
  · have h6 := h2 i hi
    unfold tc_F at h6 ⊢
    rw [pk_un (show 8 + i ≠ 8 + x % 4 by omega), pk_un (show 8 + i ≠ 8 + x % 4 by omega)]
    exact h6
  · rw [pk_us]
    decide
  · by_cases e4 : z % 4 = x % 4
    · unfold tc_V
      rw [e4, pk_us, if_neg (fun t => absurd t.1 (by decide))]
      exact k1 z hz e4 nz
    · rw [← h3 z hz]
      unfold tc_V
      rw [pk_un (show 8 + z % 4 ≠ 8 + x % 4 by omega), pk_un (show 8 + z % 4 ≠ 8 + x % 4 by omega), pk_un (show 8 + z % 4 ≠ 8 + x % 4 by omega), k2 z hz e4]
/-! ===== methods over the caches ===== -/
theorem tc_line {post : Int32 → Prop} {u : St0} {d x : Nat} (hd : d < 4) (hx : x < 16) (H : post (nI (d * 4 + x % 4))) : wpX_lineOf post u (nI d) (nI x) := by
  unfold wpX_lineOf
  rw [tc_ln d hd x hx]
  exact H
theorem tc_core {post : Int32 → Prop} {u : St0} (H : post 1) : wpX_isCore post u 2 := br_f (by decide) (br_f (by decide) H)
theorem tc_cell {post : Int32 → Prop} {u : St0} {x : Nat} (hx : x < 16) (H : post 1) : wpX_isCell post u (nI x) := br_f (nI_pos (by omega)) (br_f (nI_ge (b := 16) hx (by decide)) H)
theorem tc_holds {post : Int32 → Prop} {a1 a2 a3 a4 a5 a6 a7 a8 a9 a10 : Nat → Int32} {d x : Nat} (hd : d < 4) (hx : x < 16)
    (H0 : (a3 (d * 4 + x % 4) = 0 ∨ ¬ a2 (d * 4 + x % 4) = nI x) → post 0) (H1 : ¬ a3 (d * 4 + x % 4) = 0 → a2 (d * 4 + x % 4) = nI x → post 1) :
    wpX_holds post (a1, a2, a3, a4, a5, a6, a7, a8, a9, a10) (nI d) (nI x) := by
  unfold wpX_holds
  refine tc_line hd hx ?_
  rw [nI_clamp (show d * 4 + x % 4 < 2 ^ 31 by omega)]
  exact ⟨vp_in_nI (by omega) (by decide), br_c (fun h => H0 (Or.inl h)) (fun h => ⟨vp_in_nI (by omega) (by decide), br_c (fun g => H1 h g) (fun g => H0 (Or.inr g))⟩)⟩
/-- no other core holds anything -/
theorem tc_holds0 {post : Int32 → Prop} {a1 a2 a3 a4 a5 a6 a7 a8 a9 a10 : Nat → Int32} {d x : Nat} (hd : d < 4) (n2 : d ≠ 2) (hx : x < 16) (h : ∀ j, j < 16 → (j < 8 ∨ 12 ≤ j) → a3 j = 0) (H : post 0) :
    wpX_holds post (a1, a2, a3, a4, a5, a6, a7, a8, a9, a10) (nI d) (nI x) :=
  tc_holds hd hx (fun _ => H) (fun n _ => absurd (h (d * 4 + x % 4) (by omega) (by omega)) n)
theorem tc_nw_skip {post : Int32 → Prop} {a1 a2 a3 a4 a5 a6 a7 a8 a9 a10 : Nat → Int32} {d x n : Nat} (hd : d < 4) (n2 : d ≠ 2) (hx : x < 16) (h : ∀ j, j < 16 → (j < 8 ∨ 12 ≤ j) → a3 j = 0)
    (H : wX_newest_2 post (nI x) a1 a2 a3 a4 a5 a6 a7 a8 a9 a10 n (nI (d + 1))) : wX_newest_2 post (nI x) a1 a2 a3 a4 a5 a6 a7 a8 a9 a10 (n + 1) (nI d) :=
  br_f (nI_ge (b := 4) hd (by decide)) (tc_line hd hx (tc_holds0 hd n2 hx h (br_t rfl (nm_r (nI_1 d) H))))
theorem tc_newest {post : Int32 → Prop} {V a1 a2 a3 a4 a5 a6 a7 a8 a9 a10 : Nat → Int32} {x : Nat} (h : tc_P V a1 a2 a3 a4) (hx : x < 16) (H : post (V x)) :
    wpX_newest post (a1, a2, a3, a4, a5, a6, a7, a8, a9, a10) (nI x) := by
  have hV := h.2.2 x hx
  unfold tc_V at hV
  have tail : ¬ (a3 (8 + x % 4) = 3 ∧ a2 (8 + x % 4) = nI x) → wX_newest_2 post (nI x) a1 a2 a3 a4 a5 a6 a7 a8 a9 a10 2 (nI 3) := by
    intro nn
    rw [if_neg nn] at hV
    refine tc_nw_skip (by decide) (by decide) hx h.1 (br_t (by decide) ⟨vp_in_nI hx (by decide), ?_⟩)
    rw [nI_clamp (show x < 2 ^ 31 by omega), hV]
    exact H
  unfold wpX_newest
  refine ⟨5, tc_nw_skip (d := 0) (by decide) (by decide) hx h.1 (tc_nw_skip (d := 1) (by decide) (by decide) hx h.1 (br_f (by decide) (tc_line (d := 2) (by decide) hx (tc_holds (d := 2) (by decide) hx (fun g => ?_) (fun n0 e => ?_)))))⟩
  · refine br_t rfl (nm_r (nI_1 2) (tail ?_))
    rintro ⟨t1, t2⟩
    rcases g with g | g
    · have g' : a3 (8 + x % 4) = 0 := g
      rw [t1] at g'
      exact absurd g' (by decide)
    · exact g t2
  · refine br_f (by decide) ⟨vp_in_nI (by omega) (by decide), ?_⟩
    rw [nI_clamp (show 2 * 4 + x % 4 < 2 ^ 31 by omega)]
    refine br_c (fun t => ⟨vp_in_nI (by omega) (by decide), ?_⟩) (fun t => nm_r (nI_1 2) (tail (fun k => t k.1)))
    rw [if_pos ⟨t, e⟩] at hV
    exact hV ▸ H
theorem tc_wb {post : St2 → Prop} {V a1 a2 a3 a4 a5 a6 a7 a8 a9 a10 : Nat → Int32} {x : Nat} (h : tc_P V a1 a2 a3 a4) (hx : x < 16) (n : a3 (8 + x % 4) = 0 ∨ ¬ a2 (8 + x % 4) = nI x)
    (H : ∀ b1, (∀ z, z < 16 → z % 4 = x % 4 → z ≠ x → b1 z = V z) → (∀ z, z < 16 → z % 4 ≠ x % 4 → b1 z = a1 z) → post (b1, a2, a3, a4, a5, a6, a7, a8, a9, a10)) :
    wpX_writeBack post (a1, a2, a3, a4, a5, a6, a7, a8, a9, a10) (nI (8 + x % 4)) := by
  unfold wpX_writeBack
  dsimp only
  rw [nI_clamp (show 8 + x % 4 < 2 ^ 31 by omega)]
  refine ⟨vp_in_nI (by omega) (by decide), br_c (fun e3 => ?_) (fun n3 => ?_)⟩
  · rcases h.2.1 (x % 4) (by omega) with e0 | ⟨_, t, ht, htx, et⟩
    · rw [e3] at e0
      exact absurd e0 (by decide)
    · rw [et, nI_clamp (show t < 2 ^ 31 by omega)]
      refine ⟨vp_in_nI (by omega) (by decide), vp_in_nI (by omega) (by decide), vp_in_nI ht (by decide), nm_e (H _ (fun z hz z4 zx => ?_) (fun z hz z4 => pk_un (fun k => z4 (k ▸ htx))))⟩
      rw [← h.2.2 z hz]
      unfold tc_V
      by_cases e : z = t
      · subst e
        rw [pk_us, z4, if_pos ⟨e3, et⟩]
      · rw [pk_un e, z4, et, if_neg (fun k => tc_ne ht hz e k.2)]
  · refine H a1 (fun z hz z4 zx => ?_) (fun _ _ _ => rfl)
    rw [← h.2.2 z hz]
    unfold tc_V
    rw [z4, if_neg (fun k => n3 k.1)]
theorem tc_f27_skip {post : St2 → Prop} {l x4 : Int32} {a1 a2 a3 a4 a5 a6 a7 a8 a9 a10 : Nat → Int32} {d x n : Nat} (hd : d < 4) (n2 : d ≠ 2) (hx : x < 16) (h : ∀ j, j < 16 → (j < 8 ∨ 12 ≤ j) → a3 j = 0)
    (H : wX_fetch_27 post 2 (nI x) l n x4 (nI (d + 1)) a1 a2 a3 a4 a5 a6 a7 a8 a9 a10) : wX_fetch_27 post 2 (nI x) l (n + 1) x4 (nI d) a1 a2 a3 a4 a5 a6 a7 a8 a9 a10 :=
  br_f (nI_ge (b := 4) hd (by decide)) (br_f (fun e => n2 ((nI_eq (a := d) (b := 2) (by omega) (by decide)).mp e)) (tc_holds0 hd n2 hx h (br_t rfl (nm_r (nI_1 d) H))))
theorem tc_fetch {post : St2 → Prop} {V a1 a2 a3 a4 a5 a6 a7 a8 a9 a10 : Nat → Int32} {x : Nat} (h : tc_P V a1 a2 a3 a4) (hx : x < 16) (H : ∀ b1 b2 b3 b4, tc_Q V b1 b2 b3 b4 x → post (b1, b2, b3, b4, a5, a6, a7, a8, a9, a10)) :
    wpX_fetch post (a1, a2, a3, a4, a5, a6, a7, a8, a9, a10) 2 (nI x) := by
  unfold wpX_fetch
  refine tc_holds (d := 2) (by decide) hx (fun g => br_t rfl (tc_line (d := 2) (by decide) hx (tc_wb h hx g (fun b1 k1 k2 => ?_)))) (fun n0 e => br_f (by decide) (H _ _ _ _ (tc_PQ h n0 e)))
  refine ⟨5, tc_f27_skip (d := 0) (by decide) (by decide) hx h.1 (tc_f27_skip (d := 1) (by decide) (by decide) hx h.1 (br_f (by decide) (br_t rfl (nm_r (nI_1 2) (tc_f27_skip (d := 3) (by decide) (by decide) hx h.1 (br_t (by decide) ?_))))))⟩
  rw [nI_clamp (show 2 * 4 + x % 4 < 2 ^ 31 by omega), nI_clamp (show x < 2 ^ 31 by omega), tc_b8 x (by omega)]
  exact ⟨vp_in_nI (by omega) (by decide), nm_e ⟨vp_in_nI hx (by decide), vp_in_nI (by omega) (by decide), nm_e (br_t rfl ⟨vp_in_nI (by omega) (by decide), nm_r (show _ = upd a3 (8 + x % 4) 2 from rfl) (H _ _ _ _ (tc_PQ2 h k1 k2))⟩)⟩⟩
theorem tc_store {post : St2 → Prop} {V a1 a2 a3 a4 a5 a6 a7 a8 a9 a10 : Nat → Int32} {x : Nat} {v : Int32} (h : tc_P V a1 a2 a3 a4) (hx : x < 16) (H : ∀ b1 b2 b3 b4, tc_P (upd V x v) b1 b2 b3 b4 → post (b1, b2, b3, b4, a5, a6, a7, a8, a9, a10)) :
    wpX_store post (a1, a2, a3, a4, a5, a6, a7, a8, a9, a10) 2 (nI x) v := by
  unfold wpX_store
  refine tc_fetch h hx (fun b1 b2 b3 b4 q => tc_line (d := 2) (by decide) hx ?_)
  unfold wX_store_71
  rw [nI_clamp (show 2 * 4 + x % 4 < 2 ^ 31 by omega)]
  exact ⟨vp_in_nI (by omega) (by decide), br_f q.2.2.1 ⟨vp_in_nI (by omega) (by decide), nm_e ⟨vp_in_nI (by omega) (by decide), nm_e (H _ _ _ _ (tc_QP q hx))⟩⟩⟩
end
section
/-! ===== what was read and written ===== -/
/-- the levels of the four cores: core 2 has l, the others none -/
def tc_L (l : Nat) (a5 : Nat → Int32) : Prop := a5 0 = nI 0 ∧ a5 1 = nI 0 ∧ a5 3 = nI 0 ∧ a5 2 = nI l
theorem tc_L_o {l : Nat} {a5 : Nat → Int32} (h : tc_L l a5) {d : Nat} (hd : d < 4) (n2 : d ≠ 2) : a5 d = nI 0 := by
  have hc : d = 0 ∨ d = 1 ∨ d = 3 := by omega
  rcases hc with e | e | e
  · rw [e]; exact h.1
  · rw [e]; exact h.2.1
  · rw [e]; exact h.2.2.1
theorem tc_L_u {l k : Nat} {a5 : Nat → Int32} (h : tc_L l a5) : tc_L k (upd a5 2 (nI k)) :=
  ⟨h.1, h.2.1, h.2.2.1, rfl⟩
/-- the first n masks of core b, joined -/
def tc_ws (f : Nat → Int32) (b : Nat) : Nat → Int32
  | 0 => 0
  | n + 1 => tc_ws f b n ||| f (b * 3 + n)
theorem tc_at (d i : Nat) : nI d * 3 + nI i = nI (d * 3 + i) := by
  show nI d * nI 3 + nI i = _
  rw [pk_mul, nI_add]
theorem tc_ix (m k : Nat) : nI m * 16 + nI k = nI (m * 16 + k) := by
  show nI m * nI 16 + nI k = _
  rw [pk_mul, nI_add]
theorem tc_wset {post : Int32 → Prop} {a1 a2 a3 a4 a5 a6 a7 a8 a9 a10 : Nat → Int32} {d l : Nat} (hd : d < 4) (hl : l ≤ 3) (e : a5 d = nI l) (H : post (tc_ws a7 d l)) : wpX_writtenSet post (a1, a2, a3, a4, a5, a6, a7, a8, a9, a10) (nI d) := by
  have ec : a5 (nI d).toNatClampNeg = nI l := by rw [nI_clamp (show d < 2 ^ 31 by omega)]; exact e
  unfold wpX_writtenSet
  refine pk_loop (fun n i s => wX_writtenSet_4 post (nI d) a1 a2 a3 a4 a5 a6 a7 a8 a9 a10 n s (nI i)) (fun i s => s = tc_ws a7 d i) l 0 0 (by omega) rfl ?_ ?_
  · intro n s hs
    subst hs
    exact ⟨vp_in_nI hd (by decide), br_t (by rw [ec]; exact nI_le (Nat.le_refl l) (by omega)) H⟩
  · intro n i s hi hs hw
    subst hs
    refine ⟨vp_in_nI hd (by decide), br_f (by rw [ec]; exact nI_ge hi (by omega)) ⟨by rw [tc_at]; exact vp_in_nI (by omega) (by decide), nm_r (e' := tc_ws a7 d (i + 1)) ?_ (nm_r (nI_1 i) (hw _ rfl))⟩⟩
    rw [tc_at, nI_clamp (show d * 3 + i < 2 ^ 31 by omega)]
    rfl
theorem tc_rset {post : Int32 → Prop} {a1 a2 a3 a4 a5 a6 a7 a8 a9 a10 : Nat → Int32} {d l : Nat} (hd : d < 4) (hl : l ≤ 3) (e : a5 d = nI l) (H : post (tc_ws a6 d l)) : wpX_readSet post (a1, a2, a3, a4, a5, a6, a7, a8, a9, a10) (nI d) := by
  have ec : a5 (nI d).toNatClampNeg = nI l := by rw [nI_clamp (show d < 2 ^ 31 by omega)]; exact e
  unfold wpX_readSet
  refine pk_loop (fun n i s => wX_readSet_4 post (nI d) a1 a2 a3 a4 a5 a6 a7 a8 a9 a10 n s (nI i)) (fun i s => s = tc_ws a6 d i) l 0 0 (by omega) rfl ?_ ?_
  · intro n s hs
    subst hs
    exact ⟨vp_in_nI hd (by decide), br_t (by rw [ec]; exact nI_le (Nat.le_refl l) (by omega)) H⟩
  · intro n i s hi hs hw
    subst hs
    refine ⟨vp_in_nI hd (by decide), br_f (by rw [ec]; exact nI_ge hi (by omega)) ⟨by rw [tc_at]; exact vp_in_nI (by omega) (by decide), nm_r (e' := tc_ws a6 d (i + 1)) ?_ (nm_r (nI_1 i) (hw _ rfl))⟩⟩
    rw [tc_at, nI_clamp (show d * 3 + i < 2 ^ 31 by omega)]
    rfl
theorem tc_riv_o {post : Int32 → Prop} {a1 a2 a3 a4 a5 a6 a7 a8 a9 a10 : Nat → Int32} {d x n : Nat} (hd : d < 4) (n2 : d ≠ 2) (e : a5 d = nI 0) (hx : x < 16)
    (H : wX_rivalsOf_6 post 2 (nI x) 1 a1 a2 a3 a4 a5 a6 a7 a8 a9 a10 n 0 (nI (d + 1))) : wX_rivalsOf_6 post 2 (nI x) 1 a1 a2 a3 a4 a5 a6 a7 a8 a9 a10 (n + 1) 0 (nI d) := by
  refine br_f (nI_ge (b := 4) hd (by decide)) (tc_wset hd (by decide) e (br_f (by decide) (tc_rset hd (by decide) e (nm_r (show _ = (0 : Int32) from tc_z0) ?_))))
  unfold wX_rivalsOf_35
  exact br_f (fun k => n2 ((nI_eq (a := d) (b := 2) (by omega) (by decide)).mp k)) (br_t (tc_z x hx) (nm_r tc_z0 (nm_r (nI_1 d) H)))
theorem tc_riv {post : Int32 → Prop} {a1 a2 a3 a4 a5 a6 a7 a8 a9 a10 : Nat → Int32} {x l : Nat} (hL : tc_L l a5) (hl : l ≤ 3) (hx : x < 16) (H : post 0) : wpX_rivalsOf post (a1, a2, a3, a4, a5, a6, a7, a8, a9, a10) 2 (nI x) 1 := by
  unfold wpX_rivalsOf
  refine ⟨5, tc_riv_o (d := 0) (by decide) (by decide) hL.1 hx (tc_riv_o (d := 1) (by decide) (by decide) hL.2.1 hx (br_f (by decide) (tc_wset (d := 2) (by decide) hl hL.2.2.2 (br_f (by decide) (tc_rset (d := 2) (by decide) hl hL.2.2.2 (nm_e ?_))))))⟩
  unfold wX_rivalsOf_35
  exact br_t rfl (nm_r tc_z0 (nm_r (nI_1 2) (tc_riv_o (d := 3) (by decide) (by decide) hL.2.2.1 hx (br_t (by decide) H))))
/-! ===== the log ===== -/
theorem tc_log {post : St2 → Prop} {a1 a2 a3 a4 a5 a6 a7 a8 a9 a10 : Nat → Int32} {m s x : Nat} {o : Int32} (hm : m < 12) (hs : s < 16) (e8 : a8 m = nI s) (hx : x < 16)
    (H : post (a1, a2, a3, a4, a5, a6, upd a7 m (a7 m ||| ((1 : Int32) <<< (nI x &&& 31))), upd a8 m (nI (s + 1)), upd a9 (m * 16 + s) (nI x), upd a10 (m * 16 + s) o)) :
    wpX_log post (a1, a2, a3, a4, a5, a6, a7, a8, a9, a10) (nI m) (nI x) o := by
  unfold wpX_log
  dsimp only
  rw [nI_clamp (show m < 2 ^ 31 by omega), e8, tc_ix, nI_clamp (show m * 16 + s < 2 ^ 31 by omega), tc_b8 x (by omega), tc_b1 s (by omega)]
  exact ⟨vp_in_nI hm (by decide), vp_in_nI (by omega) (by decide), nm_e ⟨vp_in_nI hm (by decide), vp_in_nI (by omega) (by decide), nm_e ⟨vp_in_nI hm (by decide), vp_in_nI hm (by decide), nm_e ⟨vp_in_nI hm (by decide), vp_in_nI hm (by decide), nm_e H⟩⟩⟩⟩
theorem tc_lv1 : ∀ l, l < 3 → ((2 : Int32) * 3 + nI (l + 1)) - 1 = nI (6 + l) := by decide +kernel
theorem tc_lv0 : ∀ l, l < 3 → (2 : Int32) * 3 + nI l = nI (6 + l) := by decide +kernel
/-- the first write of a level -/
theorem tc_change {post : St2 → Prop} {V a1 a2 a3 a4 a5 a6 a7 a8 a9 a10 : Nat → Int32} {x l : Nat} {v : Int32} (h : tc_P V a1 a2 a3 a4) (hl : l < 3) (e5 : a5 2 = nI (l + 1)) (e7 : a7 (6 + l) = 0) (e8 : a8 (6 + l) = nI 0) (hx : x < 16)
    (H : ∀ b1 b2 b3 b4, tc_P (upd V x v) b1 b2 b3 b4 → post (b1, b2, b3, b4, a5, a6, upd a7 (6 + l) ((1 : Int32) <<< (nI x &&& 31)), upd a8 (6 + l) (nI 1), upd a9 ((6 + l) * 16) (nI x), upd a10 ((6 + l) * 16) (V x))) :
    wpX_change post (a1, a2, a3, a4, a5, a6, a7, a8, a9, a10) 2 (nI x) v := by
  unfold wpX_change
  dsimp only
  rw [tc_c2, e5]
  refine ⟨tc_in2, br_f (nI_nle (by omega) (by omega)) ⟨tc_in2, nm_r (tc_lv1 l hl) ?_⟩⟩
  rw [nI_clamp (show 6 + l < 2 ^ 31 by omega), e7]
  refine ⟨vp_in_nI (by omega) (by decide), br_t (tc_z x hx) (tc_newest h hx (tc_log (by omega) (by decide) e8 hx ?_))⟩
  rw [e7, Int32.zero_or]
  unfold wX_change_53
  exact tc_store h hx (fun b1 b2 b3 b4 p => H b1 b2 b3 b4 p)
theorem tc_write {post : Int32 → St2 → Prop} {V a1 a2 a3 a4 a5 a6 a7 a8 a9 a10 : Nat → Int32} {x l : Nat} {v : Int32} (h : tc_P V a1 a2 a3 a4) (hl : l < 3) (hL : tc_L (l + 1) a5) (e7 : a7 (6 + l) = 0) (e8 : a8 (6 + l) = nI 0) (hx : x < 16)
    (H : ∀ b1 b2 b3 b4, tc_P (upd V x v) b1 b2 b3 b4 → post 0 (b1, b2, b3, b4, a5, a6, upd a7 (6 + l) ((1 : Int32) <<< (nI x &&& 31)), upd a8 (6 + l) (nI 1), upd a9 ((6 + l) * 16) (nI x), upd a10 ((6 + l) * 16) (V x))) :
    wpX_write post (a1, a2, a3, a4, a5, a6, a7, a8, a9, a10) 2 (nI x) v := by
  unfold wpX_write
  exact tc_core (br_f (by decide) (tc_cell hx (br_f (by decide) (tc_riv hL (by omega) hx (br_t rfl (tc_change h hl hL.2.2.2 e7 e8 hx (fun b1 b2 b3 b4 p => H b1 b2 b3 b4 p)))))))
theorem tc_begin {post : Int32 → St2 → Prop} {a1 a2 a3 a4 a5 a6 a7 a8 a9 a10 : Nat → Int32} {l : Nat} (hl : l < 3) (e5 : a5 2 = nI l)
    (H : post (nI (l + 1)) (a1, a2, a3, a4, upd a5 2 (nI (l + 1)), upd a6 (6 + l) 0, upd a7 (6 + l) 0, upd a8 (6 + l) 0, a9, a10)) :
    wpX_begin post (a1, a2, a3, a4, a5, a6, a7, a8, a9, a10) 2 := by
  unfold wpX_begin
  dsimp only
  rw [tc_c2, e5]
  refine tc_core (br_f (by decide) ⟨tc_in2, br_t (nI_lt (b := 3) hl (by decide)) ⟨tc_in2, nm_r (tc_lv0 l hl) ?_⟩⟩)
  rw [nI_clamp (show 6 + l < 2 ^ 31 by omega), tc_b1 l (by omega)]
  refine ⟨vp_in_nI (by omega) (by decide), nm_e ⟨vp_in_nI (by omega) (by decide), nm_e ⟨vp_in_nI (by omega) (by decide), nm_e ⟨tc_in2, tc_in2, nm_e ⟨tc_in2, ?_⟩⟩⟩⟩⟩
  rw [pk_us]
  exact H
end
section
/-! ===== undo and giveUp ===== -/
theorem tc_un_step {post : St2 → Prop} {V a1 a2 a3 a4 a5 a6 a7 a8 a9 a10 : Nat → Int32} {m k x n : Nat} {o : Int32} (hm : m < 12) (hk : k < 16) (h : tc_P V a1 a2 a3 a4) (e9 : a9 (m * 16 + k) = nI x) (e10 : a10 (m * 16 + k) = o) (hx : x < 16)
    (H : ∀ b1 b2 b3 b4, tc_P (upd V x o) b1 b2 b3 b4 → wX_undo_22 post 2 (nI m) n (nI k + (-1)) b1 b2 b3 b4 a5 a6 a7 a8 a9 a10) :
    wX_undo_22 post 2 (nI m) (n + 1) (nI k) a1 a2 a3 a4 a5 a6 a7 a8 a9 a10 := by
  have hi : vp_in (nI m * 16 + nI k) 192 := by rw [tc_ix]; exact vp_in_nI (by omega) (by decide)
  refine br_f (nI_pos (by omega)) ⟨hi, hi, ?_⟩
  rw [tc_ix, nI_clamp (show m * 16 + k < 2 ^ 31 by omega), e9, e10]
  exact tc_store h hx (fun b1 b2 b3 b4 p => nm_e (H b1 b2 b3 b4 p))
theorem tc_un_exit {post : St2 → Prop} {a1 a2 a3 a4 a5 a6 a7 a8 a9 a10 : Nat → Int32} {m l n : Nat} (hl : l < 3) (e5 : a5 2 = nI (l + 1)) (H : post (a1, a2, a3, a4, upd a5 2 (nI l), a6, a7, a8, a9, a10)) :
    wX_undo_22 post 2 (nI m) (n + 1) (-1) a1 a2 a3 a4 a5 a6 a7 a8 a9 a10 := by
  refine br_t (by decide) ⟨tc_in2, tc_in2, nm_r ?_ H⟩
  rw [tc_c2, e5, tc_bm l (by omega)]
theorem tc_undo {post : St2 → Prop} {a1 a2 a3 a4 a5 a6 a7 a8 a9 a10 : Nat → Int32} {l s : Nat} (hl : l < 3) (e5 : a5 2 = nI (l + 1)) (e8 : a8 (6 + l) = nI (s + 1))
    (H : ∃ n, wX_undo_22 post 2 (nI (6 + l)) n (nI s) a1 a2 a3 a4 a5 a6 a7 a8 a9 a10) : wpX_undo post (a1, a2, a3, a4, a5, a6, a7, a8, a9, a10) 2 := by
  unfold wpX_undo
  dsimp only
  rw [tc_c2, e5]
  refine ⟨tc_in2, nm_r (tc_lv1 l hl) ⟨vp_in_nI (by omega) (by decide), nm_r ?_ H⟩⟩
  rw [nI_clamp (show 6 + l < 2 ^ 31 by omega), e8, nI_pred]
/-- a level with one entry is given up -/
theorem tc_give1 {post : Int32 → St2 → Prop} {V a1 a2 a3 a4 a5 a6 a7 a8 a9 a10 : Nat → Int32} {l x : Nat} {o : Int32} (hl : l < 3) (h : tc_P V a1 a2 a3 a4) (e5 : a5 2 = nI (l + 1)) (e8 : a8 (6 + l) = nI 1) (e9 : a9 ((6 + l) * 16) = nI x) (e10 : a10 ((6 + l) * 16) = o) (hx : x < 16)
    (H : ∀ b1 b2 b3 b4, tc_P (upd V x o) b1 b2 b3 b4 → post (nI l) (b1, b2, b3, b4, upd a5 2 (nI l), a6, a7, a8, a9, a10)) :
    wpX_giveUp post (a1, a2, a3, a4, a5, a6, a7, a8, a9, a10) 2 := by
  unfold wpX_giveUp
  refine tc_core (br_f (by decide) ⟨tc_in2, br_f (by rw [tc_c2, e5]; exact nI_ne0 (by omega) (by omega)) (tc_undo (s := 0) hl e5 e8 ⟨2, tc_un_step (k := 0) (by omega) (by decide) h e9 e10 hx (fun b1 b2 b3 b4 p => ?_)⟩)⟩)
  refine tc_un_exit hl e5 ⟨tc_in2, ?_⟩
  rw [tc_c2, pk_us]
  exact H b1 b2 b3 b4 p
/-- a level with two entries is given up -/
theorem tc_give2 {post : Int32 → St2 → Prop} {V a1 a2 a3 a4 a5 a6 a7 a8 a9 a10 : Nat → Int32} {l x y : Nat} {o o' : Int32} (hl : l < 3) (h : tc_P V a1 a2 a3 a4) (e5 : a5 2 = nI (l + 1)) (e8 : a8 (6 + l) = nI 2) (e9 : a9 ((6 + l) * 16) = nI x) (e10 : a10 ((6 + l) * 16) = o) (hx : x < 16)
    (e9' : a9 ((6 + l) * 16 + 1) = nI y) (e10' : a10 ((6 + l) * 16 + 1) = o') (hy : y < 16)
    (H : ∀ b1 b2 b3 b4, tc_P (upd (upd V y o') x o) b1 b2 b3 b4 → post (nI l) (b1, b2, b3, b4, upd a5 2 (nI l), a6, a7, a8, a9, a10)) :
    wpX_giveUp post (a1, a2, a3, a4, a5, a6, a7, a8, a9, a10) 2 := by
  unfold wpX_giveUp
  refine tc_core (br_f (by decide) ⟨tc_in2, br_f (by rw [tc_c2, e5]; exact nI_ne0 (by omega) (by omega)) (tc_undo (s := 1) hl e5 e8 ⟨3, tc_un_step (k := 1) (by omega) (by decide) h e9' e10' hy (fun c1 c2 c3 c4 q => ?_)⟩)⟩)
  refine tc_un_step (k := 0) (by omega) (by decide) q e9 e10 hx (fun b1 b2 b3 b4 p => ?_)
  refine tc_un_exit hl e5 ⟨tc_in2, ?_⟩
  rw [tc_c2, pk_us]
  exact H b1 b2 b3 b4 p
/-! ===== end ===== -/
theorem tc_end1 {post : Int32 → St2 → Prop} {a1 a2 a3 a4 a5 a6 a7 a8 a9 a10 : Nat → Int32} (e5 : a5 2 = nI 1) (H : post (nI 0) (a1, a2, a3, a4, upd a5 2 (nI 0), a6, a7, a8, a9, a10)) :
    wpX_end post (a1, a2, a3, a4, a5, a6, a7, a8, a9, a10) 2 := by
  unfold wpX_end
  dsimp only
  rw [tc_c2, e5, tc_bm 0 (by decide)]
  refine tc_core (br_f (by decide) ⟨tc_in2, br_f (by decide) ⟨tc_in2, tc_in2, nm_e ⟨tc_in2, ?_⟩⟩⟩)
  rw [pk_us]
  exact br_t (by decide) ⟨tc_in2, H⟩
theorem tc_end2 {post : Int32 → St2 → Prop} {a1 a2 a3 a4 a5 a6 a7 a8 a9 a10 : Nat → Int32} {y s : Nat} (e5 : a5 2 = nI 2) (e8 : a8 7 = nI 1) (e9 : a9 112 = nI y) (hy : y < 16) (s6 : a8 6 = nI s) (hs : s < 16)
    (H0 : ((a7 6 >>> (nI y &&& 31)) &&& 1) = 0 → ∀ b6, post (nI 1) (a1, a2, a3, a4, upd a5 2 (nI 1), b6, upd a7 6 (a7 6 ||| ((1 : Int32) <<< (nI y &&& 31))), upd a8 6 (nI (s + 1)), upd a9 (96 + s) (nI y), upd a10 (96 + s) (a10 112)))
    (H1 : ¬ ((a7 6 >>> (nI y &&& 31)) &&& 1) = 0 → ∀ b6, post (nI 1) (a1, a2, a3, a4, upd a5 2 (nI 1), b6, a7, a8, a9, a10)) :
    wpX_end post (a1, a2, a3, a4, a5, a6, a7, a8, a9, a10) 2 := by
  have c6 : (nI 6).toNatClampNeg = 6 := nI_clamp (by decide)
  have c7 : (nI 7).toNatClampNeg = 7 := nI_clamp (by decide)
  have ei : nI 7 * 16 + nI 0 = nI 112 := tc_ix 7 0
  have ci : (nI 112).toNatClampNeg = 112 := nI_clamp (by decide)
  unfold wpX_end
  dsimp only
  rw [tc_c2, e5, tc_bm 1 (by decide)]
  refine tc_core (br_f (by decide) ⟨tc_in2, br_f (by decide) ⟨tc_in2, tc_in2, nm_e ⟨tc_in2, ?_⟩⟩⟩)
  rw [pk_us]
  refine br_f (by decide) ⟨tc_in2, nm_r (tc_lv0 1 (by decide)) (nm_r (nI_pred 6) ⟨vp_in_nI (by decide) (by decide), vp_in_nI (by decide) (by decide), vp_in_nI (by decide) (by decide), nm_e ⟨2, ?_⟩⟩)⟩
  generalize upd a6 (nI 6).toNatClampNeg (a6 (nI 6).toNatClampNeg ||| a6 (nI 7).toNatClampNeg) = b6
  have hin : vp_in (nI 7 * 16 + nI 0) 192 := by rw [ei]; exact vp_in_nI (by decide) (by decide)
  have ez : a9 (nI 7 * 16 + nI 0).toNatClampNeg = nI y := by rw [ei, ci]; exact e9
  show wX_end_71 post 2 (nI 7) (nI 6) 2 (nI 0) a1 a2 a3 a4 (upd a5 2 (nI 1)) b6 a7 a8 a9 a10
  refine ⟨vp_in_nI (by decide) (by decide), br_f (by rw [c7, e8]; decide) ⟨hin, nm_r ez ⟨vp_in_nI (by decide) (by decide), ?_⟩⟩⟩
  rw [c6, ei, ci]
  refine br_c (fun t => ⟨vp_in_nI (by decide) (by decide), tc_log (m := 6) (by decide) hs s6 hy (nm_r (nI_1 0) ?_)⟩) (fun t => nm_r (nI_1 0) ?_)
  · refine ⟨vp_in_nI (by decide) (by decide), br_t (by rw [c7, pk_un (by decide), e8]; decide) ⟨tc_in2, ?_⟩⟩
    rw [tc_c2, pk_us]
    exact H0 t b6
  · refine ⟨vp_in_nI (by decide) (by decide), br_t (by rw [c7, e8]; decide) ⟨tc_in2, ?_⟩⟩
    rw [tc_c2, pk_us]
    exact H1 t b6
/-! ===== looking ===== -/
theorem tc_wr_o {post : Int32 → Prop} {a1 a2 a3 a4 a5 a6 a7 a8 a9 a10 : Nat → Int32} {d x n : Nat} (hd : d < 4) (e : a5 d = nI 0) (hx : x < 16)
    (H : wX_writerOf_2 post (nI x) a1 a2 a3 a4 a5 a6 a7 a8 a9 a10 n (nI (d + 1))) : wX_writerOf_2 post (nI x) a1 a2 a3 a4 a5 a6 a7 a8 a9 a10 (n + 1) (nI d) :=
  br_f (nI_ge (b := 4) hd (by decide)) (tc_wset hd (by decide) e (br_t (tc_z x hx) (nm_r (nI_1 d) H)))
theorem tc_writer {post : Int32 → Prop} {a1 a2 a3 a4 a5 a6 a7 a8 a9 a10 : Nat → Int32} {l x : Nat} (hL : tc_L l a5) (hl : l ≤ 3) (hx : x < 16)
    (H0 : ((tc_ws a7 2 l >>> (nI x &&& 31)) &&& 1) = 0 → post (-1)) (H1 : ¬ ((tc_ws a7 2 l >>> (nI x &&& 31)) &&& 1) = 0 → post 2) :
    wpX_writerOf post (a1, a2, a3, a4, a5, a6, a7, a8, a9, a10) (nI x) := by
  unfold wpX_writerOf
  refine ⟨5, tc_wr_o (d := 0) (by decide) hL.1 hx (tc_wr_o (d := 1) (by decide) hL.2.1 hx (br_f (by decide) (tc_wset (d := 2) (by decide) hl hL.2.2.2 (br_c (fun t => nm_r (nI_1 2) ?_) (fun t => H1 t)))))⟩
  exact tc_wr_o (d := 3) (by decide) hL.2.2.1 hx (br_t (by decide) (H0 t))
theorem tc_comm {post : Int32 → Prop} {V a1 a2 a3 a4 a5 a6 a7 a8 a9 a10 : Nat → Int32} {l x : Nat} (h : tc_P V a1 a2 a3 a4) (hL : tc_L l a5) (hl : l ≤ 3) (hx : x < 16)
    (hb : ((tc_ws a7 2 l >>> (nI x &&& 31)) &&& 1) = 0) (H : post (V x)) : wpX_committedIn post (a1, a2, a3, a4, a5, a6, a7, a8, a9, a10) (nI x) := by
  unfold wpX_committedIn
  exact tc_writer hL hl hx (fun _ => br_f (by decide) (tc_newest h hx H)) (fun n => absurd hb n)
theorem tc_sees {post : Int32 → Prop} {V a1 a2 a3 a4 a5 a6 a7 a8 a9 a10 : Nat → Int32} {l x : Nat} (h : tc_P V a1 a2 a3 a4) (hL : tc_L l a5) (hl : l ≤ 3) (hx : x < 16) (H : post (V x)) :
    wpX_sees post (a1, a2, a3, a4, a5, a6, a7, a8, a9, a10) 2 (nI x) := by
  unfold wpX_sees
  exact tc_core (br_f (by decide) (tc_cell hx (br_f (by decide) (tc_writer hL hl hx (fun t => br_f (by decide) (tc_comm h hL hl hx t H)) (fun _ => br_t rfl (tc_newest h hx H))))))
theorem tc_wby {post : Int32 → Prop} {a1 a2 a3 a4 a5 a6 a7 a8 a9 a10 : Nat → Int32} {l : Nat} (hL : tc_L l a5) (hl : l ≤ 3) (H : post (tc_ws a7 2 l)) :
    wpX_writtenBy post (a1, a2, a3, a4, a5, a6, a7, a8, a9, a10) 2 := by
  unfold wpX_writtenBy
  exact tc_core (br_f (by decide) (tc_wset (d := 2) (by decide) hl hL.2.2.2 H))
/-- the digest of a picture, up to cell n -/
def tc_sum (V : Nat → Int32) : Nat → Int32
  | 0 => 0
  | n + 1 => tc_sum V n + (nI n + 1) * V n
theorem tc_dig {post : Int32 → Prop} {V a1 a2 a3 a4 a5 a6 a7 a8 a9 a10 : Nat → Int32} (h : tc_P V a1 a2 a3 a4) (hL : tc_L 0 a5) (H : post (tc_sum V 16)) :
    wpX_digest post (a1, a2, a3, a4, a5, a6, a7, a8, a9, a10) := by
  unfold wpX_digest
  refine pk_loop (fun n i s => wX_digest_4 post a1 a2 a3 a4 a5 a6 a7 a8 a9 a10 n s (nI i)) (fun i s => s = tc_sum V i) 16 0 0 (by omega) rfl ?_ ?_
  · intro n s hs
    subst hs
    exact br_t (by decide) H
  · intro n i s hi hs hw
    subst hs
    exact br_f (nI_ge (b := 16) hi (by decide)) (tc_comm h hL (by decide) hi (tc_z i hi) (nm_r (e' := tc_sum V (i + 1)) rfl (nm_r (nI_1 i) (hw _ rfl))))
theorem tc_sum_u {V : Nat → Int32} {x : Nat} {v : Int32} : ∀ n, tc_sum (upd V x v) n = if x < n then tc_sum V n + (nI x + 1) * (v - V x) else tc_sum V n
  | 0 => by rw [if_neg (by omega)]; rfl
  | n + 1 => by
    show tc_sum (upd V x v) n + (nI n + 1) * upd V x v n = if x < n + 1 then tc_sum V n + (nI n + 1) * V n + (nI x + 1) * (v - V x) else tc_sum V n + (nI n + 1) * V n
    rw [tc_sum_u n]
    by_cases e : n = x
    · subst e
      rw [pk_us, if_neg (by omega), if_pos (by omega)]
      grind
    · rw [pk_un e]
      by_cases g : x < n
      · rw [if_pos g, if_pos (by omega)]
        grind
      · rw [if_neg g, if_neg (by omega)]
theorem tc_sum_0 : ∀ n, tc_sum (fun _ => 0) n = 0
  | 0 => rfl
  | n + 1 => by
    show tc_sum (fun _ => 0) n + (nI n + 1) * 0 = 0
    rw [tc_sum_0 n]
    grind
end
section
/-! ===== what the law expects ===== -/
def tc_dY (x0 x1 x7 : Int32) (x y : Nat) : Int32 := if x7 = 0 then (if x = y then x0 else 0) else x1
def tc_mk (x7 : Int32) (x y : Nat) : Int32 := ((1 : Int32) <<< (nI x &&& 31)) ||| (if x7 = 0 then 0 else ((1 : Int32) <<< (nI y &&& 31)))
def tc_dg (x0 x1 x7 : Int32) (x y : Nat) : Int32 := if x = y then (nI x + 1) * (if x7 = 0 then x0 else x1) else (nI x + 1) * x0 + (nI y + 1) * tc_dY x0 x1 x7 x y
theorem tc_248 {post : Int32 → St0 → Prop} {mc ms kc ks : Nat} {x7 x8 x10 x11 x13 x16 z0 : Int32} {x y : Nat} (h10 : x10 = x16) (h11 : x11 = tc_mk x7 x y) (h13 : x8 = 0 → x13 = 0) (g13 : ¬ x8 = 0 → x13 = z0) (H : post 1 ()) :
    wL_lawOf_248 post mc ms (nI x) (nI y) x7 x8 1 x10 x11 0 x13 x16 z0 kc ks := by
  unfold tc_mk at h11
  unfold wL_lawOf_248 wL_lawOf_282 wL_lawOf_304
  refine br_t rfl (br_t h10 (br_c (fun t => br_t ?_ (br_t rfl (br_c (fun k => br_t (h13 k) H) (fun k => br_t (g13 k) H)))) (fun t => br_t ?_ (br_t rfl (br_c (fun k => br_t (h13 k) H) (fun k => br_t (g13 k) H))))))
  · rw [if_pos t] at h11
    exact h11
  · rw [if_neg t] at h11
    exact h11
theorem tc_fin {post : Int32 → St0 → Prop} {mc ms kc ks : Nat} {x0 x1 x7 x8 x10 x11 x13 : Int32} {x y : Nat} (hx : x < 16) (hy : y < 16) (h10 : x10 = tc_dY x0 x1 x7 x y) (h11 : x11 = tc_mk x7 x y) (h13 : x8 = 0 → x13 = 0) (g13 : ¬ x8 = 0 → x13 = tc_dg x0 x1 x7 x y) (H : post 1 ()) :
    (nI x = nI y → wL_lawOf_179 post mc ms x0 x1 (nI x) (nI y) x7 x8 1 x10 x11 0 x13 1 kc ks) ∧ (¬ nI x = nI y → wL_lawOf_179 post mc ms x0 x1 (nI x) (nI y) x7 x8 1 x10 x11 0 x13 0 kc ks) := by
  unfold tc_dg at g13
  unfold tc_dY at h10 g13
  refine pk_eq x y (fun e => ?_) (fun n => ?_)
  · rw [if_pos e] at h10 g13
    unfold wL_lawOf_179
    refine br_c (fun t => ?_) (fun t => br_f (by decide) ?_)
    · rw [if_pos t] at h10 g13
      unfold wL_lawOf_195 wL_lawOf_196
      refine br_t t (br_f (by decide) ?_)
      unfold wL_lawOf_217
      exact br_f (by decide) (tc_248 h10 h11 h13 g13 H)
    · rw [if_neg t] at h10 g13
      unfold wL_lawOf_196
      refine br_f t ?_
      unfold wL_lawOf_217
      exact br_f (by decide) (tc_248 h10 h11 h13 g13 H)
  · rw [if_neg n] at h10
    rw [if_neg n, if_neg n] at g13
    unfold wL_lawOf_179
    refine br_c (fun t => ?_) (fun t => br_t rfl ?_)
    · rw [if_pos t] at h10 g13
      unfold wL_lawOf_195 wL_lawOf_196
      refine br_t t (br_t rfl ?_)
      unfold wL_lawOf_217
      exact br_t rfl (tc_248 h10 h11 h13 g13 H)
    · rw [if_neg t] at h10 g13
      unfold wL_lawOf_195 wL_lawOf_196
      refine br_f t ?_
      unfold wL_lawOf_217
      exact br_t rfl (tc_248 h10 h11 h13 g13 H)
/-! ===== the law from level 1 on ===== -/
theorem tc_118 {post : Int32 → St0 → Prop} {mc ms kc ks : Nat} {x0 x1 x7 x8 : Int32} {x y : Nat} {V a1 a2 a3 a4 a5 a6 a7 a8 a9 a10 : Nat → Int32} (hx : x < 16) (hy : y < 16) (h : tc_P V a1 a2 a3 a4) (hL : tc_L 1 a5)
    (h10 : V y = tc_dY x0 x1 x7 x y) (h11 : a7 6 = tc_mk x7 x y) (g13 : tc_sum V 16 = tc_dg x0 x1 x7 x y)
    (hU : ∀ K : Int32 → St2 → Prop, (∀ b1 b2 b3 b4 W, tc_P W b1 b2 b3 b4 → tc_sum W 16 = 0 → K (nI 0) (b1, b2, b3, b4, upd a5 2 (nI 0), a6, a7, a8, a9, a10)) → wpX_giveUp K (a1, a2, a3, a4, a5, a6, a7, a8, a9, a10) 2)
    (H : post 1 ()) : wL_lawOf_118 post mc ms x0 x1 (nI x) (nI y) x7 x8 (nI 1) kc ks a1 a2 a3 a4 a5 a6 a7 a8 a9 a10 := by
  have hm : tc_ws a7 2 1 = tc_mk x7 x y := by
    show (0 : Int32) ||| a7 6 = _
    rw [Int32.zero_or, h11]
  unfold wL_lawOf_118
  refine tc_sees h hL (by decide) hy (tc_wby hL (by decide) (br_c (fun t => hU _ (fun b1 b2 b3 b4 W p s => ?_)) (fun t => tc_end1 hL.2.2.2 ?_)))
  · unfold wL_lawOf_158
    exact tc_dig p (tc_L_u hL) (tc_fin hx hy h10 hm (fun _ => s) (fun k => absurd t k) H)
  · unfold wL_lawOf_158
    exact tc_dig h (tc_L_u hL) (tc_fin hx hy h10 hm (fun k => absurd k t) (fun _ => g13) H)
/-! ===== pictures and sums ===== -/
theorem tc_su {V : Nat → Int32} {x : Nat} {v : Int32} (hx : x < 16) : tc_sum (upd V x v) 16 = tc_sum V 16 + (nI x + 1) * (v - V x) := by rw [tc_sum_u, if_pos hx]
def tc_V1 (x0 : Int32) (x : Nat) : Nat → Int32 := upd (fun _ => 0) x x0
theorem tc_V1y {x0 : Int32} {x y : Nat} : tc_V1 x0 x y = if x = y then x0 else 0 := by
  unfold tc_V1
  by_cases e : x = y
  · subst e; rw [pk_us, if_pos rfl]
  · rw [pk_un (fun k => e k.symm), if_neg e]
theorem tc_V1s {x0 : Int32} {x : Nat} (hx : x < 16) : tc_sum (tc_V1 x0 x) 16 = (nI x + 1) * x0 := by
  unfold tc_V1
  rw [tc_su hx, tc_sum_0]
  grind
/-- the inner level is ended -/
theorem tc_s_end {x0 x1 x7 : Int32} {x y : Nat} (hx : x < 16) (hy : y < 16) (t : ¬ x7 = 0) : tc_sum (upd (tc_V1 x0 x) y x1) 16 = tc_dg x0 x1 x7 x y := by
  unfold tc_dg tc_dY
  rw [tc_su hy, tc_V1s hx, tc_V1y, if_neg t, if_neg t]
  by_cases e : x = y
  · subst e
    rw [if_pos rfl, if_pos rfl]
    grind
  · rw [if_neg e, if_neg e]
    grind
/-- the inner level is given up -/
theorem tc_s_give {x0 x1 x7 : Int32} {x y : Nat} (hx : x < 16) (hy : y < 16) (t : x7 = 0) : tc_sum (upd (upd (tc_V1 x0 x) y x1) y (tc_V1 x0 x y)) 16 = tc_dg x0 x1 x7 x y := by
  unfold tc_dg tc_dY
  rw [tc_su hy, tc_su hy, pk_us, tc_V1s hx, tc_V1y, if_pos t, if_pos t]
  by_cases e : x = y
  · subst e
    rw [if_pos rfl, if_pos rfl]
    grind
  · rw [if_neg e, if_neg e]
    grind
/-- both are given up -/
theorem tc_s_gg {x0 x1 : Int32} {x y : Nat} (hx : x < 16) (hy : y < 16) : tc_sum (upd (upd (upd (tc_V1 x0 x) y x1) y (tc_V1 x0 x y)) x 0) 16 = 0 := by
  have ev : upd (upd (tc_V1 x0 x) y x1) y (tc_V1 x0 x y) x = x0 := by
    by_cases e : x = y
    · subst e
      rw [pk_us, tc_V1y, if_pos rfl]
    · rw [pk_un e, pk_un e, tc_V1y, if_pos rfl]
  rw [tc_su hx, ev, tc_su hy, tc_su hy, pk_us, tc_V1s hx]
  grind
/-- the inner one is ended, the outer one given up: one cell -/
theorem tc_s_eg1 {x0 x1 : Int32} {x : Nat} (hx : x < 16) : tc_sum (upd (upd (tc_V1 x0 x) x x1) x 0) 16 = 0 := by
  rw [tc_su hx, tc_su hx, pk_us, tc_V1s hx, tc_V1y, if_pos rfl]
  grind
/-- two cells -/
theorem tc_s_eg2 {x0 x1 : Int32} {x y : Nat} (hx : x < 16) (hy : y < 16) (n : x ≠ y) : tc_sum (upd (upd (upd (tc_V1 x0 x) y x1) y 0) x 0) 16 = 0 := by
  rw [tc_su hx, pk_un n, pk_un n, tc_su hy, tc_su hy, pk_us, tc_V1s hx, tc_V1y, tc_V1y, if_pos rfl, if_neg n]
  grind
/-! ===== the inner level's end ===== -/
theorem tc_mid {K : Int32 → St2 → Prop} {x0 x1 x7 : Int32} {x y : Nat} {a1 a2 a3 a4 a5 a6 a7 a8 a9 a10 : Nat → Int32} (hx : x < 16) (hy : y < 16) (h : tc_P (upd (tc_V1 x0 x) y x1) a1 a2 a3 a4) (hL : tc_L 2 a5)
    (m6 : a7 6 = (1 : Int32) <<< (nI x &&& 31)) (s6 : a8 6 = nI 1) (s7 : a8 7 = nI 1) (c6 : a9 96 = nI x) (o6 : a10 96 = 0) (c7 : a9 112 = nI y) (o7 : a10 112 = tc_V1 x0 x y)
    (HK : ∀ b1 b2 b3 b4 b5 b6 b7 b8 b9 b10 W, tc_P W b1 b2 b3 b4 → tc_L 1 b5 → W y = tc_dY x0 x1 x7 x y → b7 6 = tc_mk x7 x y → tc_sum W 16 = tc_dg x0 x1 x7 x y →
      (∀ K' : Int32 → St2 → Prop, (∀ d1 d2 d3 d4 W', tc_P W' d1 d2 d3 d4 → tc_sum W' 16 = 0 → K' (nI 0) (d1, d2, d3, d4, upd b5 2 (nI 0), b6, b7, b8, b9, b10)) → wpX_giveUp K' (b1, b2, b3, b4, b5, b6, b7, b8, b9, b10) 2) →
      K (nI 1) (b1, b2, b3, b4, b5, b6, b7, b8, b9, b10)) :
    (x7 = 0 → wpX_giveUp K (a1, a2, a3, a4, a5, a6, a7, a8, a9, a10) 2) ∧ (¬ x7 = 0 → wpX_end K (a1, a2, a3, a4, a5, a6, a7, a8, a9, a10) 2) := by
  refine br_c (fun t => ?_) (fun t => ?_)
  · refine tc_give1 (l := 1) (by decide) h hL.2.2.2 s7 c7 o7 hy (fun b1 b2 b3 b4 p => HK _ _ _ _ _ _ _ _ _ _ _ p (tc_L_u hL) ?_ ?_ (tc_s_give hx hy t) (fun K' hK => ?_))
    · unfold tc_dY
      rw [pk_us, tc_V1y, if_pos t]
    · unfold tc_mk
      rw [m6, if_pos t, Int32.or_zero]
    · exact tc_give1 (l := 0) (by decide) p rfl s6 c6 o6 hx (fun d1 d2 d3 d4 q => hK _ _ _ _ _ q (tc_s_gg hx hy))
  · refine tc_end2 hL.2.2.2 s7 c7 hy s6 (by decide) (fun g b6 => ?_) (fun g b6 => ?_)
    · have n : x ≠ y := by
        rw [m6] at g
        exact (tc_bit x hx y hy).mp g
      refine HK _ _ _ _ _ _ _ _ _ _ _ h (tc_L_u hL) ?_ ?_ (tc_s_end hx hy t) (fun K' hK => ?_)
      · unfold tc_dY
        rw [pk_us, if_neg t]
      · unfold tc_mk
        rw [pk_us, m6, if_neg t]
      · have oy : tc_V1 x0 x y = 0 := by rw [tc_V1y, if_neg n]
        exact tc_give2 (l := 0) (by decide) h rfl pk_us (show upd a9 97 (nI y) 96 = nI x by rw [pk_un (by decide)]; exact c6) (show upd a10 97 (a10 112) 96 = 0 by rw [pk_un (by decide)]; exact o6) hx pk_us (show upd a10 97 (a10 112) 97 = 0 by rw [pk_us, o7, oy]) hy (fun d1 d2 d3 d4 q => hK _ _ _ _ _ q (tc_s_eg2 hx hy n))
    · have n : x = y := by
        rw [m6] at g
        by_cases e : x = y
        · exact e
        · exact absurd ((tc_bit x hx y hy).mpr e) g
      subst n
      refine HK _ _ _ _ _ _ _ _ _ _ _ h (tc_L_u hL) ?_ ?_ (tc_s_end hx hy t) (fun K' hK => ?_)
      · unfold tc_dY
        rw [pk_us, if_neg t]
      · unfold tc_mk
        rw [m6, if_neg t, Int32.or_self]
      · exact tc_give1 (l := 0) (by decide) h rfl s6 c6 o6 hx (fun d1 d2 d3 d4 q => hK _ _ _ _ _ q (tc_s_eg1 hx))
end
section
/-! ===== the law ===== -/
theorem tc_62 {post : Int32 → St0 → Prop} {mc ms kc ks : Nat} {x0 x1 x7 x8 : Int32} {x y : Nat} (hx : x < 16) (hy : y < 16) (H : post 1 ()) :
    wL_lawOf_62 post mc ms x0 x1 (nI x) (nI y) x7 x8 kc ks (fun _ => 0) (fun _ => 0) (fun _ => 0) (fun _ => 0) (fun _ => 0) (fun _ => 0) (fun _ => 0) (fun _ => 0) (fun _ => 0) (fun _ => 0) := by
  unfold wL_lawOf_62
  refine tc_begin (l := 0) (by decide) rfl ?_
  refine tc_write (l := 0) tc_P0 (by decide) ⟨rfl, rfl, rfl, rfl⟩ rfl rfl hx (fun b1 b2 b3 b4 p => ?_)
  refine tc_begin (l := 1) (by decide) rfl ?_
  refine tc_write (l := 1) p (by decide) ⟨rfl, rfl, rfl, rfl⟩ rfl rfl hy (fun c1 c2 c3 c4 q => ?_)
  refine tc_mid (x0 := x0) (x1 := x1) hx hy q ⟨rfl, rfl, rfl, rfl⟩ rfl rfl rfl rfl rfl rfl rfl (fun d1 d2 d3 d4 d5 d6 d7 d8 d9 d10 W r rL r1 r2 r3 r4 => ?_)
  exact tc_118 hx hy r rL r1 r2 r3 r4 H
theorem tc_34 {post : Int32 → St0 → Prop} {mc ms kc ks : Nat} {x0 x1 x3 : Int32} {x y : Nat} (hx : x < 16) (hy : y < 16) (H : post 1 ()) :
    wL_lawOf_34 post mc ms x0 x1 x3 (nI x) (nI y) kc ks (fun _ => 0) (fun _ => 0) (fun _ => 0) (fun _ => 0) (fun _ => 0) (fun _ => 0) (fun _ => 0) (fun _ => 0) (fun _ => 0) (fun _ => 0) := by
  unfold wL_lawOf_34 wL_lawOf_48
  exact br_c (fun _ => br_c (fun _ => tc_62 hx hy H) (fun _ => tc_62 hx hy H)) (fun _ => br_c (fun _ => tc_62 hx hy H) (fun _ => tc_62 hx hy H))
theorem tc_nxt : ∀ x, x < 16 → (nI x + 1) &&& 15 = nI ((x + 1) % 16) := by decide +kernel
theorem tc_lawOf {post : Int32 → St0 → Prop} {u : St0} {p0 p1 p2 p3 : Int32} (H : post 1 ()) : wpL_lawOf post 11 498 u p0 p1 p2 p3 := by
  obtain ⟨x, hx, ex⟩ := pk_andE p2 (m := 15) 4 (by decide)
  unfold wpL_lawOf wpX_init
  refine ⟨by decide, by decide, 10, 488, by decide, by decide, by decide, by decide, by decide, by decide, by decide, by decide, by decide, by decide, by decide, by decide, by decide, by decide, by decide, by decide, by decide, by decide, by decide, by decide, by decide, by decide, nm_r ex ?_⟩
  refine br_c (fun _ => tc_34 hx hx H) (fun _ => ?_)
  rw [tc_nxt x hx]
  exact tc_34 hx (Nat.mod_lt _ (by decide)) H
theorem tc_cellAt {post : Int32 → Prop} {L : Nat} {xs : Nat → Int32} {u : St0} {i : Nat} (hL : L ≤ 4) (hi : i < 4) (H : ∀ v, post v) : wpL_cellAt post L xs u (nI i) := by
  unfold wpL_cellAt
  exact pk_le L i (fun _ => H _) (fun g => ⟨pk_in i L g, H _⟩)
/-! ===== WHAT IS OWED for TransactionCachesLaw: one statement: the law answers true on every script of L ints xs ===== -/
theorem i_vc (xs : Nat → Int32) (L : Nat) (hL : L ≤ 4) : wpL_law (fun r => r = 1) L xs := by
  unfold wpL_law
  exact tc_cellAt (i := 0) hL (by decide) (fun _ => tc_cellAt (i := 1) hL (by decide) (fun _ => tc_cellAt (i := 2) hL (by decide) (fun _ => tc_cellAt (i := 3) hL (by decide) (fun _ => ⟨11, 498, by decide, by decide, tc_lawOf rfl⟩))))
end
