section
section
variable {m l v : Int32} {a1 a2 a3 a4 a5 a6 a7 a8 a9 a10 a11 a12 a13 : Nat → Int32}
theorem lr_isNode {post : Int32 → Prop} (hp : post 1) : wpX_isNode post (2, l, v, a1, a2, a3, a4, a5, a6, a7, a8, a9, a10, a11, a12, a13) 1 :=
  br_f (by decide) (br_f (by decide) hp)
theorem lr_isText {post : Int32 → Prop} (h1 : a1 1 = 1) (hp : post 1) : wpX_isText post (2, l, v, a1, a2, a3, a4, a5, a6, a7, a8, a9, a10, a11, a12, a13) 1 := by
  unfold wpX_isText
  dsimp only
  exact lr_isNode (br_f (by decide) ⟨pk_in 1 24 (by omega), br_t h1 hp⟩)
theorem lr_top {post : Int32 → Prop} {x : Int32} (k : Nat) (hx : x = nI k) (hk : k < 24) (h : a2 k = -1) (hp : post (nI k)) : wpX_topOf post (m, l, v, a1, a2, a3, a4, a5, a6, a7, a8, a9, a10, a11, a12, a13) x := by
  subst hx
  exact ⟨1, br_f (by decide) ⟨pk_in k 24 hk, br_t (by rw [nI_clamp (by omega), h]; decide) hp⟩⟩
theorem lr_depth {post : Int32 → Prop} (h : a2 1 = -1) (hp : post 0) : wpX_depthOf post (m, l, v, a1, a2, a3, a4, a5, a6, a7, a8, a9, a10, a11, a12, a13) 1 :=
  ⟨pk_in 1 24 (by omega), nm_r (e' := -1) h ⟨1, br_f (by decide) (br_t (by decide) hp)⟩⟩
theorem lr_foll {post : Int32 → Prop} (h : a1 1 = 1) (hp : post (-1)) : wpX_following post (m, l, v, a1, a2, a3, a4, a5, a6, a7, a8, a9, a10, a11, a12, a13) 1 1 :=
  ⟨pk_in 1 24 (by omega), br_t h ⟨1, br_f (by decide) (br_t rfl (br_t rfl hp))⟩⟩
theorem lr_close {post : Int32 → St2 → Prop} {d e k : Int32} (h : a2 1 = -1) (hp : post (k + 1) (m, l, v, a1, a2, a3, a4, a5, a6, a7, a8, a9, a10, a11, upd a12 1 k, a13)) : wpX_closeFrom post (m, l, v, a1, a2, a3, a4, a5, a6, a7, a8, a9, a10, a11, a12, a13) 1 d e 0 k :=
  ⟨2, br_f (by decide) (br_f (by decide) (br_t rfl ⟨pk_in 1 24 (by omega), nm_r (e' := upd a12 1 k) rfl (nm_e ⟨pk_in 1 24 (by omega), nm_r (e' := -1) h (nm_e (nm_e (br_f (by decide) (br_t (by decide) hp))))⟩)⟩))⟩
theorem lr_marks {post : St2 → Prop} (h1 : a1 1 = 1) (h2 : a2 1 = -1) (hp : ∀ b12, post (m, 1, v, a1, a2, a3, a4, a5, a6, a7, a8, a9, upd a10 0 1, upd a11 1 0, b12, a13)) : wpX_numberMarks post (m, l, v, a1, a2, a3, a4, a5, a6, a7, a8, a9, a10, a11, a12, a13) 1 := by
  refine ⟨2, br_f (by decide) (br_f (by decide) ⟨pk_in 0 24 (by omega), nm_r (e' := upd a10 0 1) rfl (nm_r (e' := 1) rfl (lr_foll h1 (nm_r (e' := 1) rfl (br_f (by decide) (br_t (by decide) ⟨2, ?_⟩)))))⟩)⟩
  refine br_f (by decide) ⟨pk_in 0 24 (by omega), nm_r (e' := 1) rfl ⟨pk_in 1 24 (by omega), nm_r (e' := upd a11 1 0) rfl ⟨pk_in 1 24 (by omega), br_t h1 ⟨pk_in 1 24 (by omega), nm_e ?_⟩⟩⟩⟩
  refine lr_depth h2 (br_t (by decide) (br_t (by decide) (lr_close h2 (nm_r (e' := 1) rfl (br_t (by decide) (hp _))))))
theorem lr_gapOf {post : Int32 → Prop} {n o : Int32} (hn : n = 1) (h1 : a1 1 = 1) (h11 : a11 1 = 0) (hp : post o) : wpX_gapOf post (m, l, v, a1, a2, a3, a4, a5, a6, a7, a8, a9, a10, a11, a12, a13) n o := by
  subst hn
  refine br_c (fun z => ⟨pk_in 1 24 (by omega), ?_⟩) (fun z => ⟨pk_in 1 24 (by omega), br_t h1 ⟨pk_in 1 24 (by omega), ?_⟩⟩)
  · show post (a11 1)
    rw [h11, ← z]
    exact hp
  · show post (a11 1 + o)
    rw [h11, Int32.zero_add]
    exact hp
theorem lr_gap {post : Int32 → Prop} {x o : Int32} (k : Nat) (hx : x = nI k) (hk : k < 8) (h8 : a8 k = 1) (h9 : a9 k = o) (h1 : a1 1 = 1) (h11 : a11 1 = 0) (hp : post o) : wpX_gap post (m, l, v, a1, a2, a3, a4, a5, a6, a7, a8, a9, a10, a11, a12, a13) x := by
  subst hx
  subst h9
  refine ⟨pk_in k 8 hk, pk_in k 8 hk, ?_⟩
  rw [nI_clamp (show k < 2 ^ 31 by omega)]
  exact lr_gapOf h8 h1 h11 hp
theorem lr_setStart {post : Int32 → St2 → Prop} {o : Int32} (h20 : a2 0 = -1) (h21 : a2 1 = -1) (h8 : a8 5 = 0) (ho : ¬ o < 0) (ho' : ¬ a6 1 < o)
    (hp : post 1 (2, l, v, a1, a2, a3, a4, a5, a6, a7, upd (upd a8 4 1) 5 1, upd (upd a9 4 o) 5 o, a10, a11, a12, a13)) : wpX_setStart post (2, l, v, a1, a2, a3, a4, a5, a6, a7, a8, a9, a10, a11, a12, a13) 2 1 o := by
  unfold wpX_setStart
  dsimp only
  refine br_f (by decide) (br_f (by decide) (br_f (by decide) (lr_isNode (br_f (by decide) ?_))))
  refine br_f ho ⟨pk_in 1 24 (by omega), br_f ho' (br_f (by decide) ?_)⟩
  refine ⟨pk_in 4 8 (by omega), nm_r (e' := upd a8 4 1) rfl ⟨pk_in 4 8 (by omega), nm_r (e' := upd a9 4 o) rfl ?_⟩⟩
  refine lr_top 1 rfl (by omega) h21 ⟨pk_in 5 8 (by omega), ?_⟩
  refine lr_top 0 h8 (by omega) h20 (br_f (by decide) ?_)
  refine br_f (by decide) (br_f (by decide) ⟨pk_in 5 8 (by omega), nm_r (e' := upd (upd a8 4 1) 5 1) rfl ⟨pk_in 5 8 (by omega), nm_r (e' := upd (upd a9 4 o) 5 o) rfl hp⟩⟩)
theorem lr_setEnd {post : Int32 → St2 → Prop} {o : Int32} (h1 : a1 1 = 1) (h21 : a2 1 = -1) (h8 : a8 4 = 1) (ho : ¬ o < 0) (ho' : ¬ a6 1 < o)
    (hp : ∀ b8 b9 b10 b11 b12, b8 4 = 1 → b8 5 = 1 → (∀ j, j ≠ 4 → j ≠ 5 → b8 j = a8 j) → b9 5 = o → (a9 4 ≤ o → b9 4 = a9 4) → (¬ a9 4 ≤ o → b9 4 = o) → post 1 (2, 1, v, a1, a2, a3, a4, a5, a6, a7, b8, b9, b10, b11, b12, a13)) :
    wpX_setEnd post (2, l, v, a1, a2, a3, a4, a5, a6, a7, a8, a9, a10, a11, a12, a13) 2 1 o := by
  unfold wpX_setEnd
  dsimp only
  refine br_f (by decide) (br_f (by decide) (br_f (by decide) (lr_isNode (br_f (by decide) ?_))))
  refine br_f ho ⟨pk_in 1 24 (by omega), br_f ho' (br_f (by decide) ?_)⟩
  refine ⟨pk_in 5 8 (by omega), nm_r (e' := upd a8 5 1) rfl ⟨pk_in 5 8 (by omega), nm_r (e' := upd a9 5 o) rfl ?_⟩⟩
  refine lr_top 1 rfl (by omega) h21 ⟨pk_in 4 8 (by omega), ?_⟩
  refine lr_top 1 h8 (by omega) h21 (br_t rfl ?_)
  refine br_t rfl (lr_marks h1 h21 (fun b12 => ?_))
  refine lr_gap (o := o) 5 rfl (by omega) rfl rfl h1 rfl ?_
  refine lr_gap (o := a9 4) 4 rfl (by omega) h8 rfl h1 rfl ?_
  refine br_t (by decide) (br_c (fun z => ?_) (fun z => ?_))
  · refine br_t rfl (hp _ _ _ _ _ h8 rfl (fun j _ hj => pk_un hj) rfl (fun _ => rfl) (fun h => absurd z h))
  · refine br_f (by decide) ⟨pk_in 4 8 (by omega), nm_r (e' := upd (upd a8 5 1) 4 1) rfl ⟨pk_in 4 8 (by omega), nm_r (e' := upd (upd a9 5 o) 4 o) rfl ?_⟩⟩
    exact hp _ _ _ _ _ rfl rfl (fun j h4 h5 => (pk_un h4).trans (pk_un h5)) rfl (fun h => absurd h z) (fun _ => rfl)
theorem lr_off0 {post : Int32 → Prop} (hp : post (a9 4)) : wpX_offsetOf post (m, l, v, a1, a2, a3, a4, a5, a6, a7, a8, a9, a10, a11, a12, a13) 2 0 := by
  unfold wpX_offsetOf
  dsimp only
  exact br_f (by decide) (br_f (by decide) (br_f (by decide) (br_t rfl (br_f (by decide) ⟨pk_in 4 8 (by omega), hp⟩))))
theorem lr_off1 {post : Int32 → Prop} (hp : post (a9 5)) : wpX_offsetOf post (m, l, v, a1, a2, a3, a4, a5, a6, a7, a8, a9, a10, a11, a12, a13) 2 1 := by
  unfold wpX_offsetOf
  dsimp only
  exact br_f (by decide) (br_f (by decide) (br_f (by decide) (br_f (by decide) (br_t rfl (br_f (by decide) ⟨pk_in 5 8 (by omega), hp⟩)))))
theorem lr_init {post : St2 → Prop} {mc ms : Nat} (hc : 13 ≤ mc) (hs : 544 ≤ ms)
    (hp : ∀ b1 b2 b3 b4 b5, b2 0 = -1 → post (1, 0, 0, b1, b2, b3, b4, b5, (fun _ => 0), (fun _ => 0), (fun _ => 0), (fun _ => 0), (fun _ => 0), (fun _ => 0), (fun _ => 0), (fun _ => 0))) : wpX_init post mc ms (0, 0, 0) := by
  refine ⟨by omega, by omega, by omega, by omega, by omega, by omega, by omega, by omega, by omega, by omega, by omega, by omega, by omega, by omega, by omega, by omega, by omega, by omega, by omega, by omega, by omega, by omega, by omega, by omega, by omega, by omega, ?_⟩
  refine nm_r (e' := 1) rfl ⟨pk_in 0 24 (by omega), nm_e ⟨pk_in 0 24 (by omega), nm_r (e' := upd (fun _ => 0) 0 (-1)) rfl ⟨pk_in 0 24 (by omega), nm_e ⟨pk_in 0 24 (by omega), nm_e ⟨pk_in 0 24 (by omega), nm_e ?_⟩⟩⟩⟩⟩
  exact hp _ _ _ _ _ rfl
theorem lr_text {post : Int32 → St2 → Prop} 
    (hp : ∀ b1 b2 b3 b4 b5, b1 1 = 1 → b2 1 = -1 → b2 0 = a2 0 → post 1 (2, l, v, b1, b2, b3, b4, b5, a6, a7, a8, a9, a10, a11, a12, a13)) : wpX_text post (1, l, v, a1, a2, a3, a4, a5, a6, a7, a8, a9, a10, a11, a12, a13) := by
  refine br_t (by decide) ?_
  refine nm_r (e' := 2) rfl ⟨pk_in 1 24 (by omega), nm_r (e' := upd a1 1 1) rfl ⟨pk_in 1 24 (by omega), nm_r (e' := upd a2 1 (-1)) rfl ⟨pk_in 1 24 (by omega), nm_e ⟨pk_in 1 24 (by omega), nm_e ⟨pk_in 1 24 (by omega), nm_e ?_⟩⟩⟩⟩⟩
  exact hp _ _ _ _ _ rfl rfl rfl
end
end
section
section
variable {m l v : Int32} {a1 a2 a3 a4 a5 a6 a7 a8 a9 a10 a11 a12 a13 : Nat → Int32}
/-- where an offset goes when c letters behind p become d -/
def lr_f (p c d o : Int32) : Int32 := if o ≤ p then o else if p + c < o then (o + d) - c else p
/-- the offsets behind the loop over the places -/
def lr_Q (p c d : Int32) (a8 a9 b9 : Nat → Int32) : Prop := ∀ j, j < 8 → b9 j = if a8 j = 1 then lr_f p c d (a9 j) else a9 j
/-- the letters behind the shift: E letters, g behind p become d -/
def lr_R (p g d E : Nat) (a7 b7 : Nat → Int32) : Prop := (∀ i, i < p → b7 (12 + i) = a7 (12 + i)) ∧ (∀ i, p + d ≤ i → i + g < E + d → b7 (12 + i) = a7 (12 + (i + g - d)))
theorem lr_ex3 {post : St2 → Prop} {p c d z : Int32} (H : ∀ b9, lr_Q p c d a8 a9 b9 → wX_exchange_3 post 1 p c d z m l v 1 (nI 8) a1 a2 a3 a4 a5 a6 a7 a8 b9 a10 a11 a12 a13) :
    ∀ (k i : Nat) (b9 : Nat → Int32), i + k = 8 → (∀ j, j < i → b9 j = if a8 j = 1 then lr_f p c d (a9 j) else a9 j) → (∀ j, i ≤ j → b9 j = a9 j) → wX_exchange_3 post 1 p c d z m l v (k + 1) (nI i) a1 a2 a3 a4 a5 a6 a7 a8 b9 a10 a11 a12 a13 := by
  intro k
  induction k with
  | zero =>
    intro i b9 hi h1 _
    have e : i = 8 := by omega
    subst e
    exact H b9 h1
  | succ k ih =>
    intro i b9 hi h1 h2
    have hi8 : i < 8 := by omega
    have hc : (nI i).toNatClampNeg = i := nI_clamp (by omega)
    have e9 : b9 i = a9 i := h2 i (Nat.le_refl i)
    have go : ∀ c9 : Nat → Int32, c9 i = (if a8 i = 1 then lr_f p c d (a9 i) else a9 i) → (∀ j, j ≠ i → c9 j = b9 j) → wX_exchange_3 post 1 p c d z m l v (k + 1) (nI (i + 1)) a1 a2 a3 a4 a5 a6 a7 a8 c9 a10 a11 a12 a13 := by
      intro c9 hx ho
      refine ih (i + 1) c9 (by omega) (fun j hj => ?_) (fun j hj => ?_)
      · by_cases e : j = i
        · subst e
          exact hx
        · rw [ho j e]
          exact h1 j (by omega)
      · rw [ho j (by omega)]
        exact h2 j (by omega)
    refine pk_le 8 i (fun z => absurd z (by omega)) (fun _ => ⟨pk_in i 8 hi8, ?_⟩)
    rw [hc]
    refine br_c (fun e => ⟨pk_in i 8 hi8, br_c (fun q => nm_r (nI_1 i) (go b9 ?_ (fun _ _ => rfl))) (fun q => ⟨pk_in i 8 hi8, br_c (fun t => ⟨pk_in i 8 hi8, pk_in i 8 hi8, nm_e (nm_r (nI_1 i) (go _ ?_ (fun j hj => pk_un hj)))⟩) (fun t => ⟨pk_in i 8 hi8, nm_e (nm_r (nI_1 i) (go _ ?_ (fun j hj => pk_un hj)))⟩)⟩)⟩) (fun e => nm_r (nI_1 i) (go b9 ?_ (fun _ _ => rfl)))
    · rw [if_pos e, ← e9]
      exact (if_pos q).symm
    · rw [if_pos e, ← e9, pk_us]
      unfold lr_f
      rw [if_neg q, if_pos t]
    · rw [if_pos e, ← e9, pk_us]
      unfold lr_f
      rw [if_neg q, if_neg t]
    · rw [if_neg e]
      exact e9
theorem lr_up {post : St2 → Prop} {B F E s : Nat} {t : Int32} (ht : ∀ k, s ≤ k → nI k + t = nI (k - s)) (hs : s ≤ F) (hE : B + E ≤ 288)
    (hp : ∀ b7, (∀ j, b7 j = if B + F - s ≤ j ∧ j < B + E - s then a7 (j + s) else a7 j) → post (m, l, v, a1, a2, a3, a4, a5, a6, b7, a8, a9, a10, a11, a12, a13)) :
    ∀ (k i : Nat) (b7 : Nat → Int32), i + k = E → F ≤ i → (∀ j, b7 j = if B + F - s ≤ j ∧ j < B + i - s then a7 (j + s) else a7 j) → wX_shift_49 post (nI B) (nI E) t m l v (k + 1) (nI i) a1 a2 a3 a4 a5 a6 b7 a8 a9 a10 a11 a12 a13 := by
  intro k
  induction k with
  | zero =>
    intro i b7 hi hF h
    have e : i = E := by omega
    subst e
    exact pk_le i i (fun _ => hp b7 h) (fun z => absurd z (by omega))
  | succ k ih =>
    intro i b7 hi hF h
    refine pk_le E i (fun z => absurd z (by omega)) (fun _ => ?_)
    rw [nI_add B i, ht (B + i) (by omega)]
    refine ⟨pk_in (B + i) 288 (by omega), pk_in (B + i - s) 288 (by omega), nm_e (nm_r (nI_1 i) (ih (i + 1) _ (by omega) (by omega) (fun j => ?_)))⟩
    rw [nI_clamp (show B + i < 2 ^ 31 by omega), nI_clamp (show B + i - s < 2 ^ 31 by omega)]
    by_cases e : j = B + i - s
    · rw [e, pk_us, if_pos (by omega), h, if_neg (by omega)]
      congr 1
      omega
    · rw [pk_un e, h]
      by_cases q : B + F - s ≤ j ∧ j < B + i - s
      · rw [if_pos q, if_pos (by omega)]
      · rw [if_neg q, if_neg (by omega)]
theorem lr_pred {F : Nat} (h : F < 2 ^ 31) : nI F + (-1) < nI F := by
  cases F with
  | zero => decide
  | succ f =>
    rw [pk_m1]
    exact nI_lt (by omega) h
theorem lr_down {post : St2 → Prop} {B F E s : Nat} {t : Int32} (ht : ∀ k, nI k + t = nI (k + s)) (hE : B + E + s ≤ 288)
    (hp : ∀ b7, (∀ j, b7 j = if B + F + s ≤ j ∧ j < B + E + s then a7 (j - s) else a7 j) → post (m, l, v, a1, a2, a3, a4, a5, a6, b7, a8, a9, a10, a11, a12, a13)) :
    ∀ (k i : Nat) (b7 : Nat → Int32), i = F + k → i ≤ E → (∀ j, b7 j = if B + i + s ≤ j ∧ j < B + E + s then a7 (j - s) else a7 j) → wX_shift_10 post (nI B) (nI F) t m l v (k + 1) (nI i + (-1)) a1 a2 a3 a4 a5 a6 b7 a8 a9 a10 a11 a12 a13 := by
  intro k
  induction k with
  | zero =>
    intro i b7 hi hF h
    have e : i = F := by omega
    subst e
    exact br_t (lr_pred (by omega)) (hp b7 h)
  | succ k ih =>
    intro i b7 hi hF h
    cases i with
    | zero => exact absurd hi (by omega)
    | succ i =>
    rw [pk_m1]
    refine pk_lt i F (fun z => absurd z (by omega)) (fun _ => ?_)
    rw [nI_add B i, ht (B + i)]
    refine ⟨pk_in (B + i) 288 (by omega), pk_in (B + i + s) 288 (by omega), nm_e (nm_e (ih i _ (by omega) (by omega) (fun j => ?_)))⟩
    rw [nI_clamp (show B + i < 2 ^ 31 by omega), nI_clamp (show B + i + s < 2 ^ 31 by omega)]
    by_cases e : j = B + i + s
    · by_cases s0 : s = 0
      · rw [e, pk_us, if_pos (by omega), h]
        split
        · congr 1
          omega
        · congr 1
          omega
      · rw [e, pk_us, if_pos (by omega), h, if_neg (by omega)]
        congr 1
        omega
    · rw [pk_un e, h]
      by_cases q : B + (i + 1) + s ≤ j ∧ j < B + E + s
      · rw [if_pos q, if_pos (by omega)]
      · rw [if_neg q, if_neg (by omega)]
theorem lr_tdn {d g : Nat} (h : g ≤ d) (k : Nat) : nI k + (nI d - nI g) = nI (k + (d - g)) := by
  rw [pk_sub h, nI_add]
theorem lr_tup {d g : Nat} (h : d ≤ g) (k : Nat) (hk : g - d ≤ k) : nI k + (nI d - nI g) = nI (k - (g - d)) := by
  have e1 : nI k = nI (k - (g - d)) + nI (g - d) := by
    rw [nI_add]
    congr 1
    omega
  have e2 : nI g = nI d + nI (g - d) := by
    rw [nI_add]
    congr 1
    omega
  rw [e1, e2]
  grind
theorem lr_shift {post : St2 → Prop} {p g d E : Nat} (h1 : p + g ≤ E) (h2 : E ≤ 100) (h3 : d ≤ 100) (hp : ∀ b7, lr_R p g d E a7 b7 → post (m, l, v, a1, a2, a3, a4, a5, a6, b7, a8, a9, a10, a11, a12, a13)) :
    wpX_shift post (m, l, v, a1, a2, a3, a4, a5, a6, a7, a8, a9, a10, a11, a12, a13) (nI 12) (nI (p + g)) (nI E) (nI d - nI g) := by
  by_cases hd : d ≤ g
  · have hc : nI d - nI g ≤ 0 := by
      rcases Nat.lt_or_ge d g with z | z
      · exact Int32.le_of_lt (pk_sneg (by omega) z)
      · have e : d = g := by omega
        subst e
        rw [Int32.sub_self]
        exact Int32.le_refl _
    refine br_t hc ⟨_, lr_up (a7 := a7) (F := p + g) (s := g - d) (lr_tup hd) (by omega) (by omega) (fun b7 hb => hp b7 ⟨fun i hi => ?_, fun i hi hj => ?_⟩) (E - (p + g)) (p + g) a7 (by omega) (Nat.le_refl _) (fun j => ?_)⟩
    · rw [hb, if_neg (by omega)]
    · rw [hb, if_pos (by omega)]
      congr 1
      omega
    · rw [if_neg (by omega)]
  · have hc : ¬ nI d - nI g ≤ 0 := by
      rw [pk_sub (by omega)]
      exact nI_nle (by omega) (by omega)
    refine br_f hc (nm_r (e' := nI E + (-1)) (by grind) ⟨_, lr_down (a7 := a7) (F := p + g) (s := d - g) (lr_tdn (by omega)) (by omega) (fun b7 hb => hp b7 ⟨fun i hi => ?_, fun i hi hj => ?_⟩) (E - (p + g)) E a7 (by omega) (Nat.le_refl _) (fun j => ?_)⟩)
    · rw [hb, if_neg (by omega)]
    · rw [hb, if_pos (by omega)]
      congr 1
      omega
    · rw [if_neg (by omega)]
theorem lr_ex8 {post : St2 → Prop} {p g d E : Nat} {z : Int32} (h6 : a6 1 = nI E) (h1 : p + g ≤ E) (h2 : E ≤ 100) (h3 : d ≤ 100)
    (H : ∀ b7, lr_R p g d E a7 b7 → ∃ fu, wX_exchange_105 post 1 (nI p) (nI g) (nI d) m l v fu z (nI d - 1) a1 a2 a3 a4 a5 a6 b7 a8 a9 a10 a11 a12 a13) : wX_exchange_3 post 1 (nI p) (nI g) (nI d) z m l v 1 (nI 8) a1 a2 a3 a4 a5 a6 a7 a8 a9 a10 a11 a12 a13 := by
  refine br_t (by decide) ⟨pk_in 1 24 (by omega), ?_⟩
  rw [show a6 (1 : Int32).toNatClampNeg = nI E from h6, nI_add p g, show (12 : Int32) * 1 = nI 12 by decide]
  exact lr_shift h1 h2 h3 (fun b7 hb => nm_e (H b7 hb))
theorem lr_exch {post : St2 → Prop} {p g d E : Nat} {z : Int32} (h6 : a6 1 = nI E) (h1 : p + g ≤ E) (h2 : E ≤ 100) (h3 : d ≤ 100)
    (H : ∀ b7 b9, lr_R p g d E a7 b7 → lr_Q (nI p) (nI g) (nI d) a8 a9 b9 → ∃ fu, wX_exchange_105 post 1 (nI p) (nI g) (nI d) m l v fu z (nI d - 1) a1 a2 a3 a4 a5 a6 b7 a8 b9 a10 a11 a12 a13) :
    wpX_exchange post (m, l, v, a1, a2, a3, a4, a5, a6, a7, a8, a9, a10, a11, a12, a13) 1 (nI p) (nI g) (nI d) z :=
  ⟨9, lr_ex3 (a9 := a9) (fun b9 hb => lr_ex8 h6 h1 h2 h3 (fun b7 hr => H b7 b9 hr hb)) 8 0 a9 (by omega) (fun j hj => absurd hj (by omega)) (fun _ _ => rfl)⟩
theorem lr_dEnd {post : St2 → Prop} {x2 x3 x4 z x7 : Int32} {n : Nat} (h7 : x7 < 0) (hp : post (m, l, v, a1, a2, a3, a4, a5, upd a6 1 (a6 1 + (x4 - x3)), a7, a8, a9, a10, a11, a12, a13)) : wX_exchange_105 post 1 x2 x3 x4 m l v (n + 1) z x7 a1 a2 a3 a4 a5 a6 a7 a8 a9 a10 a11 a12 a13 :=
  br_t h7 ⟨pk_in 1 24 (by omega), pk_in 1 24 (by omega), nm_r (e' := upd a6 1 (a6 1 + (x4 - x3))) rfl hp⟩
theorem lr_dStep {post : St2 → Prop} {x2 x3 x4 z x7 : Int32} {n : Nat} (q : Nat) (h7 : ¬ x7 < 0) (hq : ((12 : Int32) * 1 + x2) + x7 = nI q) (q8 : q < 288) (z' w x7' : Int32) (hw : z - z / 10 * 10 = w) (hz : z / 10 = z') (hx : x7 + (-1) = x7')
    (hp : wX_exchange_105 post 1 x2 x3 x4 m l v n z' x7' a1 a2 a3 a4 a5 a6 (upd a7 q w) a8 a9 a10 a11 a12 a13) : wX_exchange_105 post 1 x2 x3 x4 m l v (n + 1) z x7 a1 a2 a3 a4 a5 a6 a7 a8 a9 a10 a11 a12 a13 := by
  subst hw
  subst hz
  subst hx
  refine br_f h7 ⟨by decide, pk_in q 288 q8 hq, ?_⟩
  rw [hq, nI_clamp (show q < 2 ^ 31 by omega)]
  exact nm_e ⟨by decide, nm_e (nm_e hp)⟩
theorem lr_repl {post : Int32 → St2 → Prop} {A C z sz G D Z : Int32} (h1 : a1 1 = 1) (h6 : a6 1 = sz) (hA : ¬ A < 0) (hA' : ¬ sz < A) (hC : 0 ≤ C) (hz : ¬ z < -1) (hz' : z ≤ 9999)
    (hG : (C ≤ sz - A ∧ G = C) ∨ (¬ C ≤ sz - A ∧ G = sz - A)) (hD : ∀ q : Int32 → Prop, q D → wpX_digitsOf q () z) (hs : (sz - G) + D ≤ 12) (hZ : (0 ≤ z ∧ Z = z) ∨ (¬ 0 ≤ z ∧ Z = 0))
    (H : ∀ qq : St2 → Prop, (∀ b6 b7 b9, post (b6 1) (2, l, v, a1, a2, a3, a4, a5, b6, b7, a8, b9, a10, a11, a12, a13) → qq (2, l, v, a1, a2, a3, a4, a5, b6, b7, a8, b9, a10, a11, a12, a13)) → wpX_exchange qq (2, l, v, a1, a2, a3, a4, a5, a6, a7, a8, a9, a10, a11, a12, a13) 1 A G D Z) :
    wpX_replace post (2, l, v, a1, a2, a3, a4, a5, a6, a7, a8, a9, a10, a11, a12, a13) 1 A C z := by
  have k : ∀ g : Int32, G = g → wX_replace_68 post 1 A z sz g 2 l v a1 a2 a3 a4 a5 a6 a7 a8 a9 a10 a11 a12 a13 := by
    intro g e
    subst e
    unfold wX_replace_68
    refine hD _ (br_t hs ?_)
    have k2 : ∀ y : Int32, Z = y → wX_replace_111 post 1 y D G A 1 2 l v a1 a2 a3 a4 a5 a6 a7 a8 a9 a10 a11 a12 a13 := by
      intro y e
      subst e
      unfold wX_replace_111
      exact H _ (fun b6 b7 b9 h => ⟨pk_in 1 24 (by omega), h⟩)
    rcases hZ with ⟨e, e'⟩ | ⟨e, e'⟩
    · exact br_t e (k2 _ e')
    · exact br_f e (k2 _ e')
  unfold wpX_replace
  dsimp only
  refine lr_isText h1 (br_f (by decide) ⟨pk_in 1 24 (by omega), nm_r (e' := sz) h6 (br_f hA (br_f hA' (br_t hC (br_f hz (br_t hz' ?_)))))⟩)
  rcases hG with ⟨e, e'⟩ | ⟨e, e'⟩
  · exact br_t e (k _ e')
  · exact br_f e (k _ e')
/-- the first replace: the letters 1, 2, 3, 4 into an empty text -/
theorem lr_rep1 {post : Int32 → St2 → Prop} (h1 : a1 1 = 1) (h6 : a6 1 = 0)
    (hp : ∀ b6 b7 b9, b6 1 = 4 → (∀ i, i < 4 → b7 (12 + i) = nI (i + 1)) → post 4 (2, l, v, a1, a2, a3, a4, a5, b6, b7, a8, b9, a10, a11, a12, a13)) : wpX_replace post (2, l, v, a1, a2, a3, a4, a5, a6, a7, a8, a9, a10, a11, a12, a13) 1 0 0 1234 := by
  refine lr_repl (G := 0) (D := 4) (Z := 1234) h1 h6 (by decide) (by decide) (by decide) (by decide) (by decide) (Or.inl ⟨by decide, rfl⟩) (fun q hq => br_t (by decide) (br_t (by decide) (br_t (by decide) (br_t (by decide) hq)))) (by decide) (Or.inl ⟨by decide, rfl⟩) (fun qq hh => ?_)
  refine lr_exch (p := 0) (g := 0) (d := 4) (E := 0) h6 (by omega) (by omega) (by omega) (fun b7 b9 _ _ => ⟨5, ?_⟩)
  refine lr_dStep 15 (by decide) (by decide) (by omega) 123 4 2 (by decide) (by decide) (by decide) ?_
  refine lr_dStep 14 (by decide) (by decide) (by omega) 12 3 1 (by decide) (by decide) (by decide) ?_
  refine lr_dStep 13 (by decide) (by decide) (by omega) 1 2 0 (by decide) (by decide) (by decide) ?_
  refine lr_dStep 12 (by decide) (by decide) (by omega) 0 1 (-1) (by decide) (by decide) (by decide) ?_
  refine lr_dEnd (by decide) (hh _ _ _ ?_)
  have e6 : upd a6 1 (a6 1 + (nI 4 - nI 0)) 1 = 4 := by
    rw [pk_us, h6]
    decide
  rw [e6]
  refine hp _ _ _ e6 (fun i hi => ?_)
  have : i = 0 ∨ i = 1 ∨ i = 2 ∨ i = 3 := by omega
  rcases this with e | e | e | e <;> subst e <;> rfl
/-- the second replace: g letters behind p become the letter 7 (d = 1) or none (d = 0) -/
theorem lr_rep2 {post : Int32 → St2 → Prop} {p c g d : Nat} {z : Int32} (h1 : a1 1 = 1) (h6 : a6 1 = 4) (hp4 : p ≤ 4) (hc : c ≤ 3) (hg : (c ≤ 4 - p ∧ g = c) ∨ (4 - p < c ∧ g = 4 - p)) (hd : (d = 1 ∧ z = 7) ∨ (d = 0 ∧ z = -1))
    (hp : ∀ b6 b7 b9, b6 1 = nI (4 - g + d) → lr_R p g d 4 a7 b7 → (d = 1 → b7 (12 + p) = 7) → lr_Q (nI p) (nI g) (nI d) a8 a9 b9 → post (nI (4 - g + d)) (2, l, v, a1, a2, a3, a4, a5, b6, b7, a8, b9, a10, a11, a12, a13)) : wpX_replace post (2, l, v, a1, a2, a3, a4, a5, a6, a7, a8, a9, a10, a11, a12, a13) 1 (nI p) (nI c) z := by
  have es : (4 : Int32) - nI p = nI (4 - p) := pk_sub (a := 4) hp4
  have g4 : g ≤ 4 := by omega
  have eg : (4 : Int32) - nI g = nI (4 - g) := pk_sub (a := 4) g4
  have hG : (nI c ≤ 4 - nI p ∧ nI g = nI c) ∨ (¬ nI c ≤ 4 - nI p ∧ nI g = 4 - nI p) := by
    rw [es]
    rcases hg with ⟨e, e'⟩ | ⟨e, e'⟩
    · exact Or.inl ⟨nI_le e (by omega), by rw [e']⟩
    · exact Or.inr ⟨nI_ge e (by omega), by rw [e']⟩
  have hA' : ¬ (4 : Int32) < nI p := nI_nlt (a := 4) hp4 (by omega)
  have e6 : upd a6 1 (a6 1 + (nI d - nI g)) 1 = nI (4 - g + d) := by
    rw [pk_us, h6, ← nI_add, ← eg]
    grind
  rcases hd with ⟨rfl, rfl⟩ | ⟨rfl, rfl⟩
  · refine lr_repl (G := nI g) (D := nI 1) (Z := 7) h1 h6 (nI_pos (by omega)) hA' (nI_pos' (by omega)) (by decide) (by decide) hG (fun q hq => br_t (by decide) (br_f (by decide) hq)) ?_ (Or.inl ⟨by decide, rfl⟩) (fun qq hh => ?_)
    · rw [eg, nI_add]
      exact nI_le (b := 12) (by omega) (by omega)
    refine lr_exch (p := p) (g := g) (d := 1) (E := 4) h6 (by omega) (by omega) (by omega) (fun b7 b9 hr hq => ⟨2, ?_⟩)
    refine lr_dStep (12 + p) (by decide) ?_ (by omega) 0 7 (-1) (by decide) (by decide) (by decide) ?_
    · rw [← nI_add 12 p]
      show ((12 : Int32) * 1 + nI p) + 0 = 12 + nI p
      grind
    refine lr_dEnd (by decide) (hh _ _ _ ?_)
    rw [e6]
    refine hp _ _ _ e6 ⟨fun i hi => ?_, fun i hi hj => ?_⟩ (fun _ => pk_us) hq
    · rw [pk_un (by omega)]
      exact hr.1 i hi
    · rw [pk_un (by omega)]
      exact hr.2 i hi hj
  · refine lr_repl (G := nI g) (D := nI 0) (Z := 0) h1 h6 (nI_pos (by omega)) hA' (nI_pos' (by omega)) (by decide) (by decide) hG (fun q hq => br_f (by decide) hq) ?_ (Or.inr ⟨by decide, rfl⟩) (fun qq hh => ?_)
    · rw [eg, nI_add]
      exact nI_le (b := 12) (by omega) (by omega)
    refine lr_exch (p := p) (g := g) (d := 0) (E := 4) h6 (by omega) (by omega) (by omega) (fun b7 b9 hr hq => ⟨1, ?_⟩)
    refine lr_dEnd (by decide) (hh _ _ _ ?_)
    rw [e6]
    exact hp _ _ _ e6 hr (fun h => absurd h (by omega)) hq
end
end
section
section
variable {m l v : Int32} {a1 a2 a3 a4 a5 a6 a7 a8 a9 a10 a11 a12 a13 : Nat → Int32}
theorem lr_lb {post : Int32 → Prop} {u w n : Nat} (h11 : a11 1 = 0) (h6 : a6 1 = nI n) (hu : u ≤ w) (hw : w ≤ n) (hn : n ≤ 100) (hp : post (nI (w - u))) : wpX_lettersBetween post (m, l, v, a1, a2, a3, a4, a5, a6, a7, a8, a9, a10, a11, a12, a13) 1 (nI u) (nI w) := by
  have e : a11 1 + a6 1 = nI n := by rw [h11, h6, Int32.zero_add]
  refine ⟨pk_in 1 24 (by omega), pk_le 0 u (fun _ => ?_) (fun z => absurd z (by omega)) h11⟩
  refine ⟨pk_in 1 24 (by omega), pk_in 1 24 (by omega), nm_r (e' := nI n) e (pk_le w n (fun _ => ?_) (fun z => absurd z (by omega)))⟩
  refine pk_le w u (fun z => ?_) (fun z => ?_)
  · have e : w - u = 0 := by omega
    rw [e] at hp
    exact hp
  · rw [pk_sub hu]
    exact hp
theorem lr_letters {post : Int32 → St2 → Prop} {u w n : Nat} (h1 : a1 1 = 1) (h2 : a2 1 = -1) (h6 : a6 1 = nI n) (h84 : a8 4 = 1) (h85 : a8 5 = 1) (h94 : a9 4 = nI u) (h95 : a9 5 = nI w) (hu : u ≤ w) (hw : w ≤ n) (hn : n ≤ 100)
    (hp : ∀ b10 b11 b12, b10 0 = 1 → b11 1 = 0 → post (nI (w - u)) (2, 1, v, a1, a2, a3, a4, a5, a6, a7, a8, a9, b10, b11, b12, a13)) : wpX_letters post (2, l, v, a1, a2, a3, a4, a5, a6, a7, a8, a9, a10, a11, a12, a13) 2 := by
  unfold wpX_letters
  dsimp only
  refine br_f (by decide) (br_f (by decide) (br_f (by decide) ⟨pk_in 4 8 (by omega), lr_top 1 h84 (by omega) h2 (lr_marks h1 h2 (fun b12 => lr_gap 4 rfl (by omega) h84 h94 h1 rfl (lr_gap 5 rfl (by omega) h85 h95 h1 rfl ⟨2, ?_⟩)))⟩))
  refine br_f (show ¬ (1 : Int32) ≤ 0 by decide) ⟨pk_in 0 24 (by omega), pk_in 1 24 (by omega), br_t h1 ⟨pk_in 0 24 (by omega), lr_lb (a11 := upd a11 1 0) rfl h6 hu hw hn (nm_r (e' := nI (w - u)) (Int32.zero_add _) (nm_r (e' := 1) rfl (br_t (show (1 : Int32) ≤ 1 by decide) (hp _ _ _ rfl rfl))))⟩⟩
theorem lr_letterIn {post : Int32 → St2 → Prop} {u w n : Nat} (h1 : a1 1 = 1) (h2 : a2 1 = -1) (h6 : a6 1 = nI n) (h84 : a8 4 = 1) (h85 : a8 5 = 1) (h94 : a9 4 = nI u) (h95 : a9 5 = nI w) (hu : u ≤ w) (hw : w ≤ n) (hn : n ≤ 100)
    (hp : ∀ b10 b11 b12, u < w → post (a7 (12 + u)) (2, 1, v, a1, a2, a3, a4, a5, a6, a7, a8, a9, b10, b11, b12, a13)) (hp' : ∀ b10 b11 b12, w ≤ u → post (-2) (2, 1, v, a1, a2, a3, a4, a5, a6, a7, a8, a9, b10, b11, b12, a13)) : wpX_letterIn post (2, l, v, a1, a2, a3, a4, a5, a6, a7, a8, a9, a10, a11, a12, a13) 2 0 := by
  unfold wpX_letterIn
  dsimp only
  refine lr_letters h1 h2 h6 h84 h85 h94 h95 hu hw hn (fun b10 b11 b12 e10 e11 => ?_)
  refine br_t (nI_pos' (by omega)) (br_f (by decide) (pk_lt 0 (w - u) (fun z => ?_) (fun z => hp' _ _ _ (by omega))))
  refine lr_gap 4 rfl (by omega) h84 h94 h1 e11 (lr_gap 5 rfl (by omega) h85 h95 h1 e11 ⟨1, ?_⟩)
  refine br_f (show ¬ (1 : Int32) ≤ 0 by decide) ⟨pk_in 0 24 (by omega), nm_r (e' := 1) e10 ⟨pk_in 1 24 (by omega), br_t h1 (lr_lb e11 h6 hu hw hn (pk_le (w - u) 0 (fun y => absurd y (by omega)) (fun _ => ⟨pk_in 1 24 (by omega), ?_⟩)))⟩⟩
  have k : ∀ x : Int32, x = nI u → wX_letterIn_124 post 0 1 x 2 1 v a1 a2 a3 a4 a5 a6 a7 a8 a9 b10 b11 b12 a13 := by
    intro x hx
    subst hx
    have e : ((12 : Int32) * 1 + nI u) + 0 = nI (12 + u) := by
      rw [← nI_add 12 u]
      show ((12 : Int32) * 1 + nI u) + 0 = 12 + nI u
      grind
    unfold wX_letterIn_124
    rw [e, nI_clamp (show 12 + u < 2 ^ 31 by omega)]
    exact ⟨pk_in (12 + u) 288 (by omega), hp _ _ _ (by omega)⟩
  refine pk_le u 0 (fun y => k 0 ?_) (fun y => ⟨pk_in 1 24 (by omega), k _ ?_⟩) rfl e11
  · have e : u = 0 := by omega
    rw [e]
    rfl
  · show nI u - b11 1 = nI u
    rw [e11, Int32.sub_zero]
/-- where an offset goes, in naturals -/
def lr_g (P G M U : Nat) : Nat := if U ≤ P then U else if P + G < U then U + M - G else P
theorem lr_fg {P G M U : Nat} (hP : P ≤ 4) (hG : G ≤ 4) (hM : M ≤ 1) (hU : U ≤ 4) : lr_f (nI P) (nI G) (nI M) (nI U) = nI (lr_g P G M U) := by
  unfold lr_f lr_g
  by_cases h : U ≤ P
  · rw [if_pos (nI_le h (by omega)), if_pos h]
  · rw [if_neg (nI_ge (by omega) (by omega)), if_neg h, nI_add]
    by_cases h2 : P + G < U
    · rw [if_pos (nI_lt h2 (by omega)), if_pos h2, nI_add, pk_sub (by omega)]
    · rw [if_neg (nI_nlt (by omega) (by omega)), if_neg h2]
theorem lr_sel {W : Int32 → Prop} {P G M U : Nat} (hP : P ≤ 4) (hG : G ≤ 4) (hM : M ≤ 1) (hU : U ≤ 4) (h : W (nI (lr_g P G M U))) :
    (nI U ≤ nI P → W (nI U)) ∧ (¬ nI U ≤ nI P → ((nI P + nI G < nI U → W ((nI U + nI M) - nI G)) ∧ (¬ nI P + nI G < nI U → W (nI P)))) := by
  rw [← lr_fg hP hG hM hU] at h
  unfold lr_f at h
  refine br_c (fun z => ?_) (fun z => br_c (fun y => ?_) (fun y => ?_))
  · rw [if_pos z] at h
    exact h
  · rw [if_neg z, if_pos y] at h
    exact h
  · rw [if_neg z, if_neg y] at h
    exact h
theorem lr_g_le {P G M U : Nat} (h : P + G ≤ 4) (hU : U ≤ 4) : lr_g P G M U ≤ 4 - G + M := by
  unfold lr_g
  split
  · omega
  · split <;> omega
theorem lr_g_mono {P G M U Y : Nat} (h : U ≤ Y) (hM : M ≤ 1) : lr_g P G M U ≤ lr_g P G M Y := by
  unfold lr_g
  split <;> split <;> (try split) <;> (try split) <;> omega
theorem lr_m5 (s : Int32) : ∃ X : Nat, X < 5 ∧ (s &&& 7) - (s &&& 7) / 5 * 5 = nI X := by
  obtain ⟨j, hj, e⟩ := pk_andE s (m := 7) 3 (by decide)
  refine ⟨j % 5, Nat.mod_lt _ (by omega), ?_⟩
  rw [e]
  exact pk_rem (d := 5) (by omega) (by omega) (by omega)
end
end
section
section
variable {m l v : Int32} {a1 a2 a3 a4 a5 a6 a7 a8 a9 a10 a11 a12 a13 : Nat → Int32}
theorem lr_306 {post : Int32 → St0 → Prop} {mc ms kc ks u w n : Nat} {first : Int32} (h1 : a1 1 = 1) (h2 : a2 1 = -1) (h6 : a6 1 = nI n) (h84 : a8 4 = 1) (h85 : a8 5 = 1) (h94 : a9 4 = nI u) (h95 : a9 5 = nI w) (hu : u ≤ w) (hw : w ≤ n) (hn : n ≤ 100)
    (hf : u < w → a7 (12 + u) = first) (hp : post 1 ()) : wL_lawOf_306 post mc ms (nI u) (nI w) first kc ks 2 l v a1 a2 a3 a4 a5 a6 a7 a8 a9 a10 a11 a12 a13 := by
  unfold wL_lawOf_306
  refine lr_letterIn h1 h2 h6 h84 h85 h94 h95 hu hw hn (fun b10 b11 b12 z => ?_) (fun b10 b11 b12 z => ?_)
  · exact pk_le w u (fun y => absurd y (by omega)) (fun _ => br_t (hf z) hp)
  · exact pk_le w u (fun _ => br_t rfl hp) (fun y => absurd y (by omega))
theorem lr_222 {post : Int32 → St0 → Prop} {mc ms kc ks P G M u w : Nat} (h1 : a1 1 = 1) (h2 : a2 1 = -1) (h6 : a6 1 = nI (4 - G + M)) (h84 : a8 4 = 1) (h85 : a8 5 = 1) (h94 : a9 4 = nI u) (h95 : a9 5 = nI w) (hu : u ≤ w) (hw : w ≤ 4 - G + M) (hPG : P + G ≤ 4) (hM : M ≤ 1)
    (hL : u < w → u < P → a7 (12 + u) = nI (u + 1)) (h7 : u < w → u = P → M = 1 → a7 (12 + u) = 7) (hR : u < w → P + M ≤ u → a7 (12 + u) = nI (u + G - M + 1)) (hp : post 1 ()) :
    wL_lawOf_222 post mc ms (nI P) (nI G) (nI M) (nI u) (nI w) kc ks 2 l v a1 a2 a3 a4 a5 a6 a7 a8 a9 a10 a11 a12 a13 := by
  unfold wL_lawOf_222
  refine lr_off0 (br_t h94 (lr_off1 (br_t h95 (lr_letters h1 h2 h6 h84 h85 h94 h95 hu hw (by omega) (fun b10 b11 b12 _ _ => br_t (pk_sub hu).symm ?_)))))
  have k : ∀ first, (u < w → a7 (12 + u) = first) → wL_lawOf_306 post mc ms (nI u) (nI w) first kc ks 2 1 v a1 a2 a3 a4 a5 a6 a7 a8 a9 b10 b11 b12 a13 := fun first hf => lr_306 h1 h2 h6 h84 h85 h94 h95 hu hw (by omega) hf hp
  have k2 : P + M ≤ u → wL_lawOf_296 post mc ms (nI G) (nI M) (nI u) (nI w) kc ks 2 1 v a1 a2 a3 a4 a5 a6 a7 a8 a9 b10 b11 b12 a13 := by
    intro hh
    unfold wL_lawOf_296
    refine k _ (fun z => ?_)
    rw [hR z hh, pk_sub (show M ≤ u by omega), nI_add, nI_1]
    congr 1
    omega
  exact pk_le P u (fun z => pk_eq u P (fun e => pk_eq M 1 (fun e' => k 7 (fun z' => h7 z' e e')) (fun e' => k2 (by omega))) (fun e => k2 (by omega))) (fun z => k _ (fun z' => (hL z' z).trans (nI_1 u).symm))
theorem lr_107 {post : Int32 → St0 → Prop} {mc ms kc ks P C G M U Y : Nat} {x3 x4 : Int32} (h1 : a1 1 = 1) (h2 : a2 1 = -1) (h6 : a6 1 = 4) (h7 : ∀ i, i < 4 → a7 (12 + i) = nI (i + 1)) (h84 : a8 4 = 1) (h85 : a8 5 = 1) (h94 : a9 4 = nI U) (h95 : a9 5 = nI Y)
    (hU : U ≤ Y) (hY : Y ≤ 4) (hP : P ≤ 4) (hC : C ≤ 3) (hg : (C ≤ 4 - P ∧ G = C) ∨ (4 - P < C ∧ G = 4 - P)) (hM : M ≤ 1) (e3 : x3 &&& 3 = nI C) (e4 : x4 &&& 1 = nI M) (hp : post 1 ()) :
    wL_lawOf_107 post mc ms x3 x4 (nI Y) (nI U) (nI P) (nI G) kc ks 2 l v a1 a2 a3 a4 a5 a6 a7 a8 a9 a10 a11 a12 a13 := by
  have hPG : P + G ≤ 4 := by omega
  have k : ∀ z : Int32, ((M = 1 ∧ z = 7) ∨ (M = 0 ∧ z = -1)) → wL_lawOf_135 post mc ms (nI Y) (nI U) (nI P) (nI G) (nI M) z (x3 &&& 3) (nI P) 1 kc ks 2 l v a1 a2 a3 a4 a5 a6 a7 a8 a9 a10 a11 a12 a13 := by
    intro z hz
    rw [e3]
    unfold wL_lawOf_135
    refine lr_rep2 h1 h6 hP hC hg hz (fun b6 b7 b9 e6 hr h77 hq => ?_)
    have e94 : b9 4 = nI (lr_g P G M U) := by
      rw [hq 4 (by omega), if_pos h84, h94]
      exact lr_fg hP (by omega) hM (by omega)
    have e95 : b9 5 = nI (lr_g P G M Y) := by
      rw [hq 5 (by omega), if_pos h85, h95]
      exact lr_fg hP (by omega) hM (by omega)
    have er : nI (4 - G + M) = (4 - nI G) + nI M := by
      rw [← nI_add]
      congr 1
      exact (pk_sub (a := 4) (by omega)).symm
    have hw := lr_g_le (M := M) hPG hY
    refine br_t er ?_
    refine lr_sel (W := fun z0 => wL_lawOf_185 post mc ms (nI Y) (nI P) (nI G) (nI M) z0 kc ks 2 l v a1 a2 a3 a4 a5 b6 b7 a8 b9 a10 a11 a12 a13) hP (by omega) hM (by omega) ?_
    refine lr_sel (W := fun z0 => wL_lawOf_222 post mc ms (nI P) (nI G) (nI M) (nI (lr_g P G M U)) z0 kc ks 2 l v a1 a2 a3 a4 a5 b6 b7 a8 b9 a10 a11 a12 a13) hP (by omega) hM (by omega) ?_
    refine lr_222 h1 h2 e6 h84 h85 e94 e95 (lr_g_mono hU hM) hw hPG hM (fun y y' => ?_) (fun y y' y'' => ?_) (fun y y' => ?_) hp
    · rw [hr.1 _ y', h7 _ (by omega)]
    · rw [y']
      exact h77 y''
    · rw [hr.2 _ y' (by omega), h7 _ (by omega)]
  unfold wL_lawOf_107
  rw [e4]
  exact nm_e (pk_eq M 1 (fun e => k 7 (Or.inl ⟨e, rfl⟩)) (fun e => k (-1) (Or.inr ⟨by omega, rfl⟩)))
theorem lr_77 {post : Int32 → St0 → Prop} {mc ms kc ks U Y : Nat} {x2 x3 x4 : Int32} (h1 : a1 1 = 1) (h2 : a2 1 = -1) (h6 : a6 1 = 4) (h7 : ∀ i, i < 4 → a7 (12 + i) = nI (i + 1)) (h84 : a8 4 = 1) (h85 : a8 5 = 1) (h94 : a9 4 = nI U) (h95 : a9 5 = nI Y)
    (hU : U ≤ Y) (hY : Y ≤ 4) (hp : post 1 ()) : wL_lawOf_77 post mc ms x2 x3 x4 (nI Y) (nI U) kc ks 2 l v a1 a2 a3 a4 a5 a6 a7 a8 a9 a10 a11 a12 a13 := by
  obtain ⟨P, hP, eP⟩ := lr_m5 x2
  obtain ⟨C, hC, eC⟩ := pk_andE x3 (m := 3) 2 (by decide)
  obtain ⟨M, hM, eM⟩ := pk_andE x4 (m := 1) 1 (by decide)
  have es : (4 : Int32) - nI P = nI (4 - P) := pk_sub (a := 4) (by omega)
  refine ⟨by decide, nm_r eP (pk_le C (4 - P) (fun z => ?_) (fun z => ?_) eC es)⟩
  · rw [eC]
    exact lr_107 h1 h2 h6 h7 h84 h85 h94 h95 hU hY (by omega) (by omega) (Or.inl ⟨z, rfl⟩) (by omega) eC eM hp
  · rw [es]
    exact lr_107 h1 h2 h6 h7 h84 h85 h94 h95 hU hY (by omega) (by omega) (Or.inr ⟨z, rfl⟩) (by omega) eC eM hp
end
end
section
theorem lr_lawOf {post : Int32 → St0 → Prop} {p0 p1 p2 p3 p4 : Int32} (hp : post 1 ()) : wpL_lawOf post 308 4928 () p0 p1 p2 p3 p4 := by
  obtain ⟨X, hX, eX⟩ := lr_m5 p0
  obtain ⟨Y, hY, eY⟩ := lr_m5 p1
  refine ⟨by omega, by omega, 307, 4912, by omega, by omega, lr_init (by omega) (by omega) (fun b1 b2 b3 b4 b5 e20 => lr_text (fun c1 c2 c3 c4 c5 f1 f2 f20 => lr_rep1 f1 rfl (fun c6 c7 c9 g6 g7 => ⟨by decide, nm_r eX ⟨by decide, nm_r eY ?_⟩⟩)))⟩
  refine lr_setStart (f20.trans e20) f2 rfl (nI_pos (by omega)) (by rw [g6]; exact nI_nlt (a := 4) (by omega) (by omega)) ?_
  refine lr_setEnd f1 f2 rfl (nI_pos (by omega)) (by rw [g6]; exact nI_nlt (a := 4) (by omega) (by omega)) (fun d8 d9 d10 d11 d12 h84 h85 _ h95 h94 h94' => ?_)
  have k1 : X ≤ Y → d9 4 = nI X := fun h => h94 (nI_le h (by omega))
  have k2 : Y < X → d9 4 = nI Y := fun h => h94' (nI_ge h (by omega))
  refine pk_le Y X (fun z => ?_) (fun z => ?_)
  · refine lr_77 f1 f2 g6 g7 h84 h85 ?_ h95 (Nat.le_refl Y) (by omega) hp
    rcases Nat.lt_or_ge Y X with h | h
    · exact k2 h
    · rw [k1 h]
      congr 1
      omega
  · exact lr_77 f1 f2 g6 g7 h84 h85 (k1 (by omega)) h95 (by omega) (by omega) hp
theorem i_vc (xs : Nat → Int32) (L : Nat) (hL : L ≤ 5) : wpL_law (fun r => r = 1) L xs := by
  have c : ∀ (q : Int32 → Prop) (k : Nat), k < 5 → (∀ r, q r) → wpL_cellAt q L xs () (nI k) := fun q k hk h => pk_le L k (fun _ => h _) (fun z => ⟨pk_in k L z, h _⟩)
  unfold wpL_law
  exact c _ 0 (by omega) (fun _ => c _ 1 (by omega) (fun _ => c _ 2 (by omega) (fun _ => c _ 3 (by omega) (fun _ => c _ 4 (by omega) (fun _ => ⟨308, 4928, by omega, by omega, lr_lawOf rfl⟩)))))
end
