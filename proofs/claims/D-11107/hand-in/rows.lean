section
/-! small rows -/
theorem bl_at {a : Nat → Int32} {k : Nat} {x : Int32} (hk : k < 64) (h : a k = x) : a (nI k).toNatClampNeg = x := by
  rw [nI_clamp (show k < 2 ^ 31 by omega)]
  exact h
theorem bl_le {x y z : Int32} (h : x = y) (d : y ≤ z) : x ≤ z := by
  rw [h]
  exact d
theorem bl_nle {x y z : Int32} (h : x = y) (d : ¬ y ≤ z) : ¬ x ≤ z := by
  rw [h]
  exact d
theorem bl_lt {x y z : Int32} (h : x = y) (d : z < y) : z < x := by
  rw [h]
  exact d
theorem bl_nlt {x y z : Int32} (h : x = y) (d : ¬ z < y) : ¬ z < x := by
  rw [h]
  exact d
theorem bl_ne {x y z : Int32} (h : x = y) (d : ¬ y = z) : ¬ x = z := by
  rw [h]
  exact d
theorem bl_ne' {x y z : Int32} (h : x = y) (d : ¬ z = y) : ¬ z = x := by
  rw [h]
  exact d
theorem bl_s16 (b : Nat) : nI b * 16 + ((0 + 0 : Int32) &&& 15) = nI (b * 16) := by
  rw [show ((0 + 0 : Int32) &&& 15) = 0 from by decide, Int32.add_zero]
  exact pk_mul b 16
theorem bl_up {a : Nat → Int32} {k : Nat} {x y z : Int32} (hk : k < 64) (h : a k = x) (e : y = z) : upd a (nI k).toNatClampNeg y = upd a k z := by
  rw [nI_clamp (show k < 2 ^ 31 by omega), e]
/-! the methods over one belt: b its number; it is empty (a2 b = 0), or it holds one item with the gap g -/
section
variable {fl fg : Int32} {a1 a2 a3 a4 a5 a6 a7 a8 a9 a10 a11 a12 : Nat → Int32} {b g : Nat}
theorem bl_bad {post : Int32 → Prop} (hb : b < 4) (H : post 0) : wpX_bad post () (nI b) :=
  br_f (nI_pos (by omega)) (br_t (nI_lt (b := 4) hb (by decide)) H)
theorem bl_slot {post : Int32 → Prop} (hb : b < 4) (h1 : a1 b = 0) (H : post (nI (b * 16))) : wpX_slot post (fl, fg, a1, a2, a3, a4, a5, a6, a7, a8, a9, a10, a11, a12) (nI b) 0 := by
  refine ⟨pk_in b 4 hb, ?_⟩
  rw [bl_at (by omega) h1, bl_s16]
  exact H
theorem bl_end0 {post : Int32 → Prop} (hb : b < 4) (h2 : a2 b = 0) (H : post 0) : wpX_atEnd post (fl, fg, a1, a2, a3, a4, a5, a6, a7, a8, a9, a10, a11, a12) (nI b) :=
  ⟨pk_in b 4 hb, br_t (bl_le (bl_at (by omega) h2) (by decide)) H⟩
theorem bl_end1 {post : Int32 → Prop} (hb : b < 4) (h1 : a1 b = 0) (h2 : a2 b = 1) (h3 : a3 (b * 16) = nI g) (hg : g < 64) (H0 : g = 0 → post 1) (H1 : g ≠ 0 → post 0) : wpX_atEnd post (fl, fg, a1, a2, a3, a4, a5, a6, a7, a8, a9, a10, a11, a12) (nI b) :=
  ⟨pk_in b 4 hb, br_f (bl_nle (bl_at (by omega) h2) (by decide)) (bl_slot hb h1 ⟨pk_in (b * 16) 64 (by omega), pk_eq g 0 H0 H1 (bl_at (by omega) h3)⟩)⟩
theorem bl_fo0 {post : Int32 → Prop} (hb : b < 4) (h2 : a2 b = 0) (H : post 0) : wpX_firstOpen post (fl, fg, a1, a2, a3, a4, a5, a6, a7, a8, a9, a10, a11, a12) (nI b) :=
  ⟨1, pk_in b 4 hb, br_t (bl_le (bl_at (by omega) h2) (by decide)) H⟩
theorem bl_fo1 {post : Int32 → Prop} (hb : b < 4) (h1 : a1 b = 0) (h2 : a2 b = 1) (h3 : a3 (b * 16) = nI g) (hg : g < 64) (H0 : g = 0 → post 1) (H1 : g ≠ 0 → post 0) : wpX_firstOpen post (fl, fg, a1, a2, a3, a4, a5, a6, a7, a8, a9, a10, a11, a12) (nI b) :=
  ⟨2, pk_in b 4 hb, br_f (bl_nle (bl_at (by omega) h2) (by decide)) (bl_slot hb h1 ⟨pk_in (b * 16) 64 (by omega), pk_eq g 0 (fun e => nm_r (e' := 1) (by decide) ⟨pk_in b 4 hb, br_t (bl_le (bl_at (by omega) h2) (by decide)) (H0 e)⟩) H1 (bl_at (by omega) h3)⟩)⟩
/-- the only item, taken off -/
theorem bl_rm {post : Int32 → St2 → Prop} (hb : b < 4) (h1 : a1 b = 0) (h2 : a2 b = 1) (H : ∀ c1 c5 : Nat → Int32, post (a4 (b * 16)) (fl, fg, c1, upd a2 b 0, a3, a4, c5, a6, a7, a8, a9, a10, a11, a12)) : wpX_removeItem_2 post (fl, fg, a1, a2, a3, a4, a5, a6, a7, a8, a9, a10, a11, a12) (nI b) 0 := by
  unfold wpX_removeItem_2
  dsimp only
  refine bl_slot hb h1 ⟨pk_in (b * 16) 64 (by omega), nm_r (bl_at (by omega) rfl) ⟨pk_in (b * 16) 64 (by omega), nm_e ⟨pk_in b 4 hb, br_t (bl_le (bl_at (by omega) h2) (by decide)) ⟨pk_in b 4 hb, pk_in b 4 hb, nm_e (br_t rfl ⟨pk_in b 4 hb, pk_in b 4 hb, nm_e ⟨pk_in b 4 hb, pk_in b 4 hb, ?_⟩⟩)⟩⟩⟩⟩
  exact nm_r (bl_up (by omega) h2 (by rw [bl_at (by omega) h2]; decide)) (H _ _)
theorem bl_po0 {post : St2 → Prop} (hb : b < 4) (h2 : a2 b = 0) (H : post (fl, fg, a1, a2, a3, a4, a5, a6, a7, a8, a9, a10, a11, a12)) : wpX_passOn post (fl, fg, a1, a2, a3, a4, a5, a6, a7, a8, a9, a10, a11, a12) (nI b) := by
  unfold wpX_passOn
  dsimp only
  exact bl_end0 hb h2 (br_t rfl H)
theorem bl_poN {post : St2 → Prop} (hb : b < 4) (h1 : a1 b = 0) (h2 : a2 b = 1) (h3 : a3 (b * 16) = nI g) (hg : g < 64) (hn : g ≠ 0) (H : post (fl, fg, a1, a2, a3, a4, a5, a6, a7, a8, a9, a10, a11, a12)) : wpX_passOn post (fl, fg, a1, a2, a3, a4, a5, a6, a7, a8, a9, a10, a11, a12) (nI b) := by
  unfold wpX_passOn
  dsimp only
  exact bl_end1 hb h1 h2 h3 hg (fun e => absurd e hn) (fun _ => br_t rfl H)
theorem bl_poC {post : St2 → Prop} (hb : b < 4) (h1 : a1 b = 0) (h2 : a2 b = 1) (h3 : a3 (b * 16) = nI 0) (h6 : a6 b = -1) (H : post (fl, fg, a1, a2, a3, a4, a5, a6, a7, a8, a9, a10, a11, a12)) : wpX_passOn post (fl, fg, a1, a2, a3, a4, a5, a6, a7, a8, a9, a10, a11, a12) (nI b) := by
  unfold wpX_passOn
  dsimp only
  exact bl_end1 hb h1 h2 h3 (by decide) (fun _ => br_f (by decide) ⟨pk_in b 4 hb, nm_r (bl_at (by omega) h6) (br_f (by decide) (br_t (by decide) H))⟩) (fun e => absurd rfl e)
theorem bl_poO {post : St2 → Prop} (hb : b < 4) (h1 : a1 b = 0) (h2 : a2 b = 1) (h3 : a3 (b * 16) = nI 0) (h6 : a6 b = -2) (H : ∀ c1 c5 : Nat → Int32, post (fl, fg + 1, c1, upd a2 b 0, a3, a4, c5, a6, a7, a8, a9, a10, a11, a12)) : wpX_passOn post (fl, fg, a1, a2, a3, a4, a5, a6, a7, a8, a9, a10, a11, a12) (nI b) := by
  unfold wpX_passOn
  dsimp only
  exact bl_end1 hb h1 h2 h3 (by decide) (fun _ => br_f (by decide) ⟨pk_in b 4 hb, nm_r (bl_at (by omega) h6) (br_t rfl (bl_rm hb h1 h2 (fun c1 c5 => nm_e (H c1 c5))))⟩) (fun e => absurd rfl e)
theorem bl_ad0 {post : St2 → Prop} (hb : b < 4) (h2 : a2 b = 0) (H : post (fl, fg, a1, a2, a3, a4, a5, a6, a7, a8, a9, a10, a11, a12)) : wpX_advance post (fl, fg, a1, a2, a3, a4, a5, a6, a7, a8, a9, a10, a11, a12) (nI b) := by
  unfold wpX_advance
  dsimp only
  exact bl_fo0 hb h2 ⟨pk_in b 4 hb, br_t (bl_at (by omega) h2).symm H⟩
theorem bl_adZ {post : St2 → Prop} (hb : b < 4) (h1 : a1 b = 0) (h2 : a2 b = 1) (h3 : a3 (b * 16) = nI 0) (H : post (fl, fg, a1, a2, a3, a4, a5, a6, a7, a8, a9, a10, a11, a12)) : wpX_advance post (fl, fg, a1, a2, a3, a4, a5, a6, a7, a8, a9, a10, a11, a12) (nI b) := by
  unfold wpX_advance
  dsimp only
  exact bl_fo1 hb h1 h2 h3 (by decide) (fun _ => ⟨pk_in b 4 hb, br_t (bl_at (by omega) h2).symm H⟩) (fun e => absurd rfl e)
theorem bl_adD {post : St2 → Prop} (hb : b < 4) (h1 : a1 b = 0) (h2 : a2 b = 1) (h3 : a3 (b * 16) = nI (g + 1)) (h5 : a5 b = nI (g + 1)) (hg : g + 1 < 64) (H : post (fl, fg, a1, a2, upd a3 (b * 16) (nI g), a4, upd a5 b (nI g), a6, a7, a8, a9, a10, a11, a12)) : wpX_advance post (fl, fg, a1, a2, a3, a4, a5, a6, a7, a8, a9, a10, a11, a12) (nI b) := by
  unfold wpX_advance
  dsimp only
  exact bl_fo1 hb h1 h2 h3 hg (fun e => absurd e (by omega)) (fun _ => ⟨pk_in b 4 hb, br_f (bl_ne' (bl_at (by omega) h2) (by decide)) (bl_slot hb h1 ⟨pk_in (b * 16) 64 (by omega), pk_in (b * 16) 64 (by omega), nm_r (bl_up (by omega) h3 (by rw [bl_at (by omega) h3]; exact nI_pred g)) ⟨pk_in b 4 hb, pk_in b 4 hb, nm_r (bl_up (by omega) h5 (by rw [bl_at (by omega) h5]; exact nI_pred g)) H⟩⟩)⟩)
/-! the questions -/
theorem bl_pl0 {post : Int32 → Prop} (hb : b < 4) (h2 : a2 b = 0) (H : post (-4)) : wpX_place post (fl, fg, a1, a2, a3, a4, a5, a6, a7, a8, a9, a10, a11, a12) (nI b) 0 := by
  unfold wpX_place
  dsimp only
  exact bl_bad hb (br_t rfl (br_f (by decide) ⟨pk_in b 4 hb, br_f (bl_nlt (bl_at (by omega) h2) (by decide)) H⟩))
theorem bl_pl1 {post : Int32 → Prop} (hb : b < 4) (h1 : a1 b = 0) (h2 : a2 b = 1) (h3 : a3 (b * 16) = nI g) (H : post (nI g)) : wpX_place post (fl, fg, a1, a2, a3, a4, a5, a6, a7, a8, a9, a10, a11, a12) (nI b) 0 := by
  unfold wpX_place
  dsimp only
  refine bl_bad hb (br_t rfl (br_f (by decide) ⟨pk_in b 4 hb, br_t (bl_lt (bl_at (by omega) h2) (by decide)) ?_⟩))
  unfold wpX_placeOf
  dsimp only
  exact nm_r (e' := 0) (by decide) ⟨2, br_f (by decide) (bl_slot hb h1 ⟨pk_in (b * 16) 64 (by omega), nm_r (by rw [bl_at (by omega) h3, Int32.zero_add]) (nm_e (br_t (by decide) H))⟩)⟩
theorem bl_mv0 {post : Int32 → Prop} (hb : b < 4) (h2 : a2 b = 0) (H : post 0) : wpX_moving post (fl, fg, a1, a2, a3, a4, a5, a6, a7, a8, a9, a10, a11, a12) (nI b) := by
  unfold wpX_moving
  dsimp only
  refine bl_bad hb (br_t rfl ⟨pk_in b 4 hb, bl_fo0 hb h2 ?_⟩)
  rw [bl_at (by omega) h2]
  exact H
theorem bl_mv1 {post : Int32 → Prop} (hb : b < 4) (h1 : a1 b = 0) (h2 : a2 b = 1) (h3 : a3 (b * 16) = nI g) (hg : g < 64) (H0 : g = 0 → post 0) (H1 : g ≠ 0 → post 1) : wpX_moving post (fl, fg, a1, a2, a3, a4, a5, a6, a7, a8, a9, a10, a11, a12) (nI b) := by
  unfold wpX_moving
  dsimp only
  refine bl_bad hb (br_t rfl ⟨pk_in b 4 hb, bl_fo1 hb h1 h2 h3 hg (fun e => ?_) (fun e => ?_)⟩)
  · rw [bl_at (by omega) h2]
    exact H0 e
  · rw [bl_at (by omega) h2]
    exact H1 e
theorem bl_hr0 {post : Int32 → Prop} (hb : b < 4) (h2 : a2 b = 0) (H : post 1) : wpX_hasRoom post (fl, fg, a1, a2, a3, a4, a5, a6, a7, a8, a9, a10, a11, a12) (nI b) :=
  ⟨pk_in b 4 hb, br_t (bl_at (by omega) h2) H⟩
theorem bl_ro0 {post : Int32 → Prop} (hb : b < 4) (h2 : a2 b = 0) (H : post 1) : wpX_room post (fl, fg, a1, a2, a3, a4, a5, a6, a7, a8, a9, a10, a11, a12) (nI b) := by
  unfold wpX_room
  dsimp only
  exact bl_bad hb (br_t rfl (bl_hr0 hb h2 ⟨by decide, H⟩))
theorem bl_ro1 {post : Int32 → Prop} {l : Nat} (hb : b < 4) (hfl : fl = nI l) (hl : 8 ≤ l) (hl' : l ≤ 60) (h2 : a2 b = 1) (h5 : a5 b = nI g) (hg : g < 64) (H0 : l - 4 < g → post 0) (H1 : g ≤ l - 4 → post 1) : wpX_room post (fl, fg, a1, a2, a3, a4, a5, a6, a7, a8, a9, a10, a11, a12) (nI b) := by
  unfold wpX_room
  dsimp only
  have e : fl - 4 = nI (l - 4) := by
    rw [hfl]
    exact pk_sub (a := l) (b := 4) (by omega)
  have e2 : a5 (nI b).toNatClampNeg + 4 * (a2 (nI b).toNatClampNeg - 1) = nI g := by
    rw [bl_at (by omega) h5, bl_at (by omega) h2, show (4 : Int32) * (1 - 1) = 0 from by decide, Int32.add_zero]
  exact bl_bad hb (br_t rfl ⟨pk_in b 4 hb, br_f (bl_ne (bl_at (by omega) h2) (by decide)) ⟨pk_in b 4 hb, pk_in b 4 hb, pk_lt (l - 4) g (fun z => ⟨by decide, H0 z⟩) (fun z => ⟨by decide, H1 z⟩) e e2⟩⟩)
theorem bl_tk0 {post : Int32 → St2 → Prop} (hb : b < 4) (h2 : a2 b = 0) (H : post (-4) (fl, fg, a1, a2, a3, a4, a5, a6, a7, a8, a9, a10, a11, a12)) : wpX_take post (fl, fg, a1, a2, a3, a4, a5, a6, a7, a8, a9, a10, a11, a12) (nI b) := by
  unfold wpX_take
  dsimp only
  exact bl_bad hb (br_t rfl (bl_end0 hb h2 (br_t rfl H)))
theorem bl_tk1 {post : Int32 → St2 → Prop} (hb : b < 4) (h1 : a1 b = 0) (h2 : a2 b = 1) (h3 : a3 (b * 16) = nI g) (hg : g < 64) (H0 : g = 0 → ∀ u, post (a4 (b * 16)) u) (H1 : g ≠ 0 → ∀ u, post (-4) u) : wpX_take post (fl, fg, a1, a2, a3, a4, a5, a6, a7, a8, a9, a10, a11, a12) (nI b) := by
  unfold wpX_take
  dsimp only
  exact bl_bad hb (br_t rfl (bl_end1 hb h1 h2 h3 hg (fun e => br_f (by decide) (bl_rm hb h1 h2 (fun c1 c5 => H0 e _))) (fun e => br_t rfl (H1 e _))))
theorem bl_neg2 : ∀ b : Nat, b < 4 → ¬ (-2 : Int32) = nI b := by decide +kernel
theorem bl_lead {post : Int32 → St2 → Prop} (hb : b < 4) (H : ∀ r, post r (fl, fg, a1, a2, a3, a4, a5, upd a6 b (-2), a7, a8, a9, a10, a11, a12)) : wpX_lead post (fl, fg, a1, a2, a3, a4, a5, a6, a7, a8, a9, a10, a11, a12) (nI b) (-2) := by
  unfold wpX_lead
  dsimp only
  exact bl_bad hb (br_t rfl (br_f (by decide) (br_f (by decide) (br_f (bl_neg2 b hb) ⟨pk_in b 4 hb, nm_e ⟨pk_in b 4 hb, nm_r (bl_up (by omega) rfl rfl) (H _)⟩⟩))))
theorem bl_put {post : Int32 → St2 → Prop} {q : Nat} (hb : b < 4) (hq : q < 8) (h1 : a1 b = 0) (h2 : a2 b = 0) (h5 : a5 b = 0) (H : ∀ r, post r (fl, fg, a1, upd a2 b 1, upd a3 (b * 16) fl, upd a4 (b * 16) (nI q), upd a5 b fl, a6, a7, a8, a9, a10, a11, a12)) : wpX_put post (fl, fg, a1, a2, a3, a4, a5, a6, a7, a8, a9, a10, a11, a12) (nI b) (nI q) := by
  unfold wpX_put
  dsimp only
  refine bl_bad hb (br_t rfl (br_f (nI_pos (by omega)) (br_t (nI_le (b := 7) (by omega) (by decide)) (bl_hr0 hb h2 (br_f (by decide) ⟨pk_in b 4 hb, br_t (bl_at (by omega) h2) ?_⟩)))))
  unfold wX_append_28
  rw [bl_at (by omega) h2]
  exact ⟨pk_in b 4 hb, bl_slot hb h1 ⟨pk_in (b * 16) 64 (by omega), nm_r (bl_up (by omega) rfl rfl) ⟨pk_in (b * 16) 64 (by omega), nm_r (bl_up (by omega) rfl rfl) ⟨pk_in b 4 hb, pk_in b 4 hb, nm_r (bl_up (by omega) h5 (by rw [bl_at (by omega) h5, Int32.zero_add])) ⟨pk_in b 4 hb, pk_in b 4 hb, nm_r (bl_up (by omega) h2 (by decide)) ⟨pk_in b 4 hb, H _⟩⟩⟩⟩⟩⟩
end
end
section
/-! the pictures: one item on belt b with the gap g; or that item is gone -/
def bl_A (b l g : Nat) (kd ld : Int32) (u : St2) : Prop := match u with
  | (fl, fg, a1, a2, a3, a4, a5, a6, a7, a8, a9, a10, a11, a12) => fl = nI l ∧ fg = 0 ∧ a1 b = 0 ∧ a2 b = 1 ∧ (∀ k, k < 4 → k ≠ b → a2 k = 0) ∧ a3 (b * 16) = nI g ∧ a4 (b * 16) = kd ∧ a5 b = nI g ∧ a6 b = ld ∧ a7 0 = 0 ∧ a7 1 = 0
def bl_B (u : St2) : Prop := match u with
  | (fl, fg, a1, a2, a3, a4, a5, a6, a7, a8, a9, a10, a11, a12) => fg = 1 ∧ (∀ k, k < 4 → a2 k = 0) ∧ a7 0 = 0 ∧ a7 1 = 0
def bl_ld (o : Bool) : Int32 := if o = true then -2 else -1
/-- behind i ticks -/
def bl_T (o : Bool) (b l : Nat) (kd : Int32) (i : Nat) (u : St2) : Prop := (¬ (o = true ∧ l < i) ∧ bl_A b l (l - i) kd (bl_ld o) u) ∨ ((o = true ∧ l < i) ∧ bl_B u)
section
variable {post : St2 → Prop} {fl fg : Int32} {a1 a2 a3 a4 a5 a6 a7 a8 a9 a10 a11 a12 : Nat → Int32} {b g : Nat}
theorem bl_arms (h0 : a7 0 = 0) (h1 : a7 1 = 0) (H : post (fl, fg, a1, a2, a3, a4, a5, a6, a7, a8, a9, a10, a11, a12)) : ∃ n, wX_tickOnce_25 post n 0 fl fg a1 a2 a3 a4 a5 a6 a7 a8 a9 a10 a11 a12 :=
  ⟨3, br_f (by decide) ⟨pk_in 0 2 (by omega), br_t (bl_at (k := 0) (by omega) h0) (nm_r (e' := nI 1) (by decide) (br_f (by decide) ⟨pk_in 1 2 (by omega), br_t (bl_at (k := 1) (by omega) h1) (nm_r (e' := nI 2) (by decide) (br_t (by decide) H))⟩))⟩⟩
theorem bl_skips {n : Nat} : ∀ c k : Nat, k + c ≤ 4 → (∀ j, k ≤ j → j < k + c → a2 j = 0) → wX_tickOnce_2 post n (nI (k + c)) fl fg a1 a2 a3 a4 a5 a6 a7 a8 a9 a10 a11 a12 → wX_tickOnce_2 post (n + c) (nI k) fl fg a1 a2 a3 a4 a5 a6 a7 a8 a9 a10 a11 a12
  | 0, _, _, _, H => H
  | c + 1, k, hk, h, H => by
    have H' : wX_tickOnce_2 post n (nI (k + 1 + c)) fl fg a1 a2 a3 a4 a5 a6 a7 a8 a9 a10 a11 a12 := by
      rw [show k + 1 + c = k + (c + 1) by omega]
      exact H
    have R := bl_skips c (k + 1) (by omega) (fun j h1 h2 => h j (by omega) (by omega)) H'
    exact br_f (nI_ge (b := 4) (by omega) (by decide)) (bl_po0 (by omega) (h k (by omega) (by omega)) (bl_ad0 (by omega) (h k (by omega) (by omega)) (nm_r (nI_1 k) R)))
theorem bl_last {n : Nat} (h0 : a7 0 = 0) (h1 : a7 1 = 0) (H : post (fl, fg, a1, a2, a3, a4, a5, a6, a7, a8, a9, a10, a11, a12)) : wX_tickOnce_2 post (n + 1) (nI 4) fl fg a1 a2 a3 a4 a5 a6 a7 a8 a9 a10 a11 a12 :=
  br_t (by decide) (bl_arms h0 h1 H)
theorem bl_once {cl cg : Int32} {c1 c2 c3 c4 c5 c6 c7 c8 c9 c10 c11 c12 : Nat → Int32} (hb : b < 4) (ho : ∀ k, k < 4 → k ≠ b → a2 k = 0) (ho' : ∀ k, k < 4 → k ≠ b → c2 k = 0)
    (hs : ∀ n, wX_tickOnce_2 post n (nI (b + 1)) cl cg c1 c2 c3 c4 c5 c6 c7 c8 c9 c10 c11 c12 → wX_tickOnce_2 post (n + 1) (nI b) fl fg a1 a2 a3 a4 a5 a6 a7 a8 a9 a10 a11 a12)
    (h0 : c7 0 = 0) (h1 : c7 1 = 0) (H : post (cl, cg, c1, c2, c3, c4, c5, c6, c7, c8, c9, c10, c11, c12)) : wpX_tickOnce post (fl, fg, a1, a2, a3, a4, a5, a6, a7, a8, a9, a10, a11, a12) := by
  have E : wX_tickOnce_2 post (0 + 1 + (3 - b)) (nI (b + 1)) cl cg c1 c2 c3 c4 c5 c6 c7 c8 c9 c10 c11 c12 := by
    refine bl_skips (3 - b) (b + 1) (by omega) (fun j h1 h2 => ho' j (by omega) (by omega)) ?_
    rw [show b + 1 + (3 - b) = 4 by omega]
    exact bl_last h0 h1 H
  have F := hs _ E
  have G : wX_tickOnce_2 post (0 + 1 + (3 - b) + 1 + b) (nI 0) fl fg a1 a2 a3 a4 a5 a6 a7 a8 a9 a10 a11 a12 := by
    refine bl_skips b 0 (by omega) (fun j h1 h2 => ho j (by omega) (by omega)) ?_
    rw [Nat.zero_add b]
    exact F
  exact ⟨_, G⟩
/-- one tick -/
theorem bl_tick1 {o : Bool} {l i : Nat} {kd : Int32} {u : St2} (hb : b < 4) (hl : l ≤ 60) (h : bl_T o b l kd i u) (H : ∀ v, bl_T o b l kd (i + 1) v → post v) : wpX_tickOnce post u := by
  obtain ⟨fl, fg, a1, a2, a3, a4, a5, a6, a7, a8, a9, a10, a11, a12⟩ := u
  rcases h with ⟨hn, hfl, hfg, h1, h2, h2', h3, h4, h5, h6, h70, h71⟩ | ⟨hn, hfg, h2, h70, h71⟩
  · by_cases hi : i < l
    · obtain ⟨g, hg⟩ : ∃ g, l - i = g + 1 := ⟨l - i - 1, by omega⟩
      rw [hg] at h3 h5
      refine bl_once hb h2' h2' (fun n W => br_f (nI_ge (b := 4) hb (by decide)) (bl_poN hb h1 h2 h3 (by omega) (by omega) (bl_adD hb h1 h2 h3 h5 (by omega) (nm_r (nI_1 b) W)))) h70 h71 (H _ (Or.inl ⟨fun z => absurd z.2 (by omega), ?_⟩))
      rw [show l - (i + 1) = g by omega]
      exact ⟨hfl, hfg, h1, h2, h2', pk_us, h4, pk_us, h6, h70, h71⟩
    · rw [show l - i = 0 by omega] at h3 h5
      cases o with
      | false =>
        refine bl_once hb h2' h2' (fun n W => br_f (nI_ge (b := 4) hb (by decide)) (bl_poC hb h1 h2 h3 h6 (bl_adZ hb h1 h2 h3 (nm_r (nI_1 b) W)))) h70 h71 (H _ (Or.inl ⟨fun z => absurd z.1 (by decide), ?_⟩))
        rw [show l - (i + 1) = 0 by omega]
        exact ⟨hfl, hfg, h1, h2, h2', h3, h4, h5, h6, h70, h71⟩
      | true =>
        have hn' : ¬ l < i := fun z => hn ⟨rfl, z⟩
        have Z : ∀ k, k < 4 → upd a2 b 0 k = 0 := by
          intro k hk
          by_cases e : k = b
          · rw [e, pk_us]
          · rw [pk_un e]
            exact h2' k hk e
        have G : wX_tickOnce_2 post (0 + 1 + (3 - b) + 1) (nI (0 + b)) fl fg a1 a2 a3 a4 a5 a6 a7 a8 a9 a10 a11 a12 := by
          rw [Nat.zero_add b]
          refine br_f (nI_ge (b := 4) hb (by decide)) (bl_poO hb h1 h2 h3 h6 (fun c1 c5 => bl_ad0 hb (Z b hb) (nm_r (nI_1 b) ?_)))
          refine bl_skips (3 - b) (b + 1) (by omega) (fun j _ _ => Z j (by omega)) ?_
          rw [show b + 1 + (3 - b) = 4 by omega]
          exact bl_last h70 h71 (H _ (Or.inr ⟨⟨rfl, by omega⟩, by rw [hfg]; decide, Z, h70, h71⟩))
        exact ⟨_, bl_skips b 0 (by omega) (fun j _ _ => h2' j (by omega) (by omega)) G⟩
  · have G : wX_tickOnce_2 post (0 + 1 + 4) (nI 0) fl fg a1 a2 a3 a4 a5 a6 a7 a8 a9 a10 a11 a12 := bl_skips 4 0 (by omega) (fun j _ _ => h2 j (by omega)) (bl_last h70 h71 (H _ (Or.inr ⟨⟨hn.1, by omega⟩, hfg, h2, h70, h71⟩)))
    exact ⟨_, G⟩
end
section
variable {post : Int32 → St2 → Prop} {fl : Int32} {a1 a2 a3 a4 a5 a6 a7 a8 a9 a10 a11 a12 : Nat → Int32} {b l m : Nat} {o : Bool} {kd : Int32}
theorem bl_loop (hb : b < 4) (hl : l ≤ 60) (hm : m ≤ 200) (h : bl_T o b l kd 0 (fl, 0, a1, a2, a3, a4, a5, a6, a7, a8, a9, a10, a11, a12)) (H : ∀ v : St2, bl_T o b l kd m v → post (v.2.1 - 0) v) : ∃ n, wX_tick_23 post (nI m) 0 n 0 fl 0 a1 a2 a3 a4 a5 a6 a7 a8 a9 a10 a11 a12 := by
  refine pk_loop (fun n i s => wX_tick_23 post (nI m) 0 n (nI i) s.1 s.2.1 s.2.2.1 s.2.2.2.1 s.2.2.2.2.1 s.2.2.2.2.2.1 s.2.2.2.2.2.2.1 s.2.2.2.2.2.2.2.1 s.2.2.2.2.2.2.2.2.1 s.2.2.2.2.2.2.2.2.2.1 s.2.2.2.2.2.2.2.2.2.2.1 s.2.2.2.2.2.2.2.2.2.2.2.1 s.2.2.2.2.2.2.2.2.2.2.2.2.1 s.2.2.2.2.2.2.2.2.2.2.2.2.2) (fun i s => bl_T o b l kd i s) m 0 (fl, 0, a1, a2, a3, a4, a5, a6, a7, a8, a9, a10, a11, a12) (by omega) h ?_ ?_
  · intro n s hs
    exact pk_le m m (fun _ => H s hs) (fun z => absurd z (by omega))
  · intro n i s hi hs hw
    refine pk_le m i (fun z => absurd z (by omega)) (fun _ => bl_tick1 hb hl hs (fun v hv => ?_))
    obtain ⟨fl, fg, a1, a2, a3, a4, a5, a6, a7, a8, a9, a10, a11, a12⟩ := v
    exact nm_r (nI_1 i) (hw _ hv)
/-- n, held within 0 and 200, is m -/
def bl_cl (n : Int32) (m : Nat) : Prop := m ≤ 200 ∧ (n = nI m ∨ (n < 0 ∧ m = 0) ∨ (¬ n ≤ 200 ∧ ¬ n < 0 ∧ m = 200))
theorem bl_cl_ex (n : Int32) : ∃ m, bl_cl n m := by
  by_cases h0 : n < 0
  · exact ⟨0, by omega, Or.inr (Or.inl ⟨h0, rfl⟩)⟩
  · by_cases h1 : n ≤ 200
    · obtain ⟨j, hj, e⟩ := nI_of2 (M := 200) (n := 200) (by decide) h0 h1
      exact ⟨j, hj, Or.inl e⟩
    · exact ⟨200, by omega, Or.inr (Or.inr ⟨h1, h0, rfl⟩)⟩
theorem bl_neg {n : Int32} (h : n < 0) : n ≤ 200 ∧ n ≤ 0 ∧ ¬ 0 ≤ n := by
  rw [Int32.lt_iff_toInt_lt, show (0 : Int32).toInt = 0 from by decide] at h
  rw [Int32.le_iff_toInt_le, Int32.le_iff_toInt_le, Int32.le_iff_toInt_le, show (0 : Int32).toInt = 0 from by decide, show (200 : Int32).toInt = 200 from by decide]
  omega
theorem bl_nn {n : Int32} (h : ¬ n < 0) : 0 ≤ n := by
  rw [Int32.lt_iff_toInt_lt, show (0 : Int32).toInt = 0 from by decide] at h
  rw [Int32.le_iff_toInt_le, show (0 : Int32).toInt = 0 from by decide]
  omega
theorem bl_tick {n : Int32} (hb : b < 4) (hl : l ≤ 60) (hn : bl_cl n m) (h : bl_T o b l kd 0 (fl, 0, a1, a2, a3, a4, a5, a6, a7, a8, a9, a10, a11, a12)) (H : ∀ v : St2, bl_T o b l kd m v → post (v.2.1 - 0) v) : wpX_tick post (fl, 0, a1, a2, a3, a4, a5, a6, a7, a8, a9, a10, a11, a12) n := by
  obtain ⟨hm, e | ⟨h0, e⟩ | ⟨h1, _, e⟩⟩ := hn
  · subst e
    exact br_t (nI_le (b := 200) hm (by decide)) (bl_loop hb hl hm h H)
  · subst e
    exact br_t (bl_neg h0).1 ⟨1, br_t (bl_neg h0).2.1 (H _ h)⟩
  · subst e
    exact br_f h1 (bl_loop hb hl hm h H)
end
end
section
/-! the making -/
def bl_len (p : Int32) (l : Nat) : Prop := 8 ≤ l ∧ l ≤ 60 ∧ ((8 ≤ p ∧ p ≤ 60 ∧ p = nI l) ∨ (¬ 8 ≤ p ∧ l = 8) ∨ (8 ≤ p ∧ ¬ p ≤ 60 ∧ l = 60))
theorem bl_len_ex (p : Int32) : ∃ l, bl_len p l := by
  by_cases h0 : 8 ≤ p
  · by_cases h1 : p ≤ 60
    · have h2 : ¬ p < 0 := by
        rw [Int32.le_iff_toInt_le, show (8 : Int32).toInt = 8 from by decide] at h0
        rw [Int32.lt_iff_toInt_lt, show (0 : Int32).toInt = 0 from by decide]
        omega
      obtain ⟨j, hj, e⟩ := nI_of2 (M := 60) (n := 60) (by decide) h2 h1
      subst e
      have h3 : 8 ≤ j := (nI_leI (a := 8) (by omega) (by omega)).mp h0
      exact ⟨j, h3, hj, Or.inl ⟨h0, h1, rfl⟩⟩
    · exact ⟨60, by omega, by omega, Or.inr (Or.inr ⟨h0, h1, rfl⟩)⟩
  · exact ⟨8, by omega, by omega, Or.inr (Or.inl ⟨h0, rfl⟩)⟩
theorem bl_fill {s : Nat → Int32} {i : Nat} {x : Int32} (hi : i < 64) (h : ∀ j, j < i → s j = x) : ∀ j, j < i + 1 → upd s (nI i).toNatClampNeg x j = x := by
  intro j hj
  rw [nI_clamp (show i < 2 ^ 31 by omega)]
  by_cases e : j = i
  · rw [e, pk_us]
  · rw [pk_un e]
    exact h j (by omega)
section
variable {post : St2 → Prop} {mc ms kc ks : Nat} {fl fg : Int32} {a1 a2 a3 a4 a5 a6 a7 a8 a9 a10 a11 a12 : Nat → Int32}
theorem bl_137 (H : ∀ c12, post (fl, fg, a1, a2, a3, a4, a5, a6, a7, a8, a9, a10, a11, c12)) : ∃ n, wX_init_137 post mc ms kc ks fl fg n 0 a1 a2 a3 a4 a5 a6 a7 a8 a9 a10 a11 a12 :=
  pk_loop (fun n i s => wX_init_137 post mc ms kc ks fl fg n (nI i) a1 a2 a3 a4 a5 a6 a7 a8 a9 a10 a11 s) (fun _ _ => True) 2 0 a12 (by omega) trivial
    (fun n s _ => pk_le 2 2 (fun _ => H s) (fun z => absurd z (by omega)))
    (fun n i s hi _ hw => pk_le 2 i (fun z => absurd z (by omega)) (fun _ => ⟨pk_in i 2 hi, nm_e (nm_r (nI_1 i) (hw _ trivial))⟩))
theorem bl_117 (H : ∀ c6 c12, (∀ k, k < 4 → c6 k = -1) → post (fl, fg, a1, a2, a3, a4, a5, c6, a7, a8, a9, a10, a11, c12)) : ∃ n, wX_init_117 post mc ms kc ks fl fg n 0 a1 a2 a3 a4 a5 a6 a7 a8 a9 a10 a11 a12 :=
  pk_loop (fun n i s => wX_init_117 post mc ms kc ks fl fg n (nI i) a1 a2 a3 a4 a5 s a7 a8 a9 a10 a11 a12) (fun i s => ∀ j, j < i → s j = -1) 4 0 a6 (by omega) (fun j hj => absurd hj (by omega))
    (fun n s h => pk_le 4 4 (fun _ => bl_137 (fun c12 => H s c12 h)) (fun z => absurd z (by omega)))
    (fun n i s hi h hw => pk_le 4 i (fun z => absurd z (by omega)) (fun _ => ⟨pk_in i 4 hi, nm_e (nm_r (nI_1 i) (hw _ (bl_fill (by omega) h)))⟩))
end
/-- a new object -/
def bl_N (l : Nat) (u : St2) : Prop := match u with
  | (fl, fg, a1, a2, a3, a4, a5, a6, a7, a8, a9, a10, a11, a12) => fl = nI l ∧ fg = 0 ∧ (∀ k, a1 k = 0) ∧ (∀ k, a2 k = 0) ∧ (∀ k, a5 k = 0) ∧ (∀ k, k < 4 → a6 k = -1) ∧ (∀ k, a7 k = 0)
theorem bl_init {post : St2 → Prop} {p : Int32} {l : Nat} (hp : bl_len p l) (H : ∀ u, bl_N l u → post u) : wpX_init post 12 156 (0, 0) p := by
  have K : ∀ c6 c12 : Nat → Int32, (∀ k, k < 4 → c6 k = -1) → post (nI l, 0, (fun _ => 0), (fun _ => 0), (fun _ => 0), (fun _ => 0), (fun _ => 0), c6, (fun _ => 0), (fun _ => 0), (fun _ => 0), (fun _ => 0), (fun _ => 0), c12) :=
    fun c6 c12 h => H _ ⟨rfl, rfl, fun _ => rfl, fun _ => rfl, fun _ => rfl, h, fun _ => rfl⟩
  have M : (8 ≤ p → wX_init_101 post 12 156 p 12 156 0 0 (fun _ => 0) (fun _ => 0) (fun _ => 0) (fun _ => 0) (fun _ => 0) (fun _ => 0) (fun _ => 0) (fun _ => 0) (fun _ => 0) (fun _ => 0) (fun _ => 0) (fun _ => 0)) ∧ (¬ 8 ≤ p → wX_init_101 post 12 156 8 12 156 0 0 (fun _ => 0) (fun _ => 0) (fun _ => 0) (fun _ => 0) (fun _ => 0) (fun _ => 0) (fun _ => 0) (fun _ => 0) (fun _ => 0) (fun _ => 0) (fun _ => 0) (fun _ => 0)) := by
    obtain ⟨hl, hl', ⟨h0, h1, e⟩ | ⟨h0, e⟩ | ⟨h0, h1, e⟩⟩ := hp
    · subst e
      exact br_t h0 (br_t h1 (bl_117 K))
    · subst e
      exact br_f h0 (br_t (by decide) (bl_117 K))
    · subst e
      exact br_t h0 (br_f h1 (bl_117 K))
  exact ⟨by decide, by decide, by decide, by decide, by decide, by decide, by decide, by decide, by decide, by decide, by decide, by decide, by decide, by decide, by decide, by decide, by decide, by decide, by decide, by decide, by decide, by decide, by decide, by decide, M⟩
/-! the law, from its end -/
section
variable {post : Int32 → St0 → Prop} {mc ms kc ks : Nat} {fl fg : Int32} {a1 a2 a3 a4 a5 a6 a7 a8 a9 a10 a11 a12 : Nat → Int32} {b l m g : Nat} {x2 ld : Int32}
theorem bl_255A {z : Int32} (hb : b < 4) (hg : g ≤ 60) (h : bl_A b l g (x2 &&& 7) ld (fl, fg, a1, a2, a3, a4, a5, a6, a7, a8, a9, a10, a11, a12)) (H : post 1 ()) : wL_lawOf_255 post mc ms x2 (nI b) 0 (nI g) z z kc ks fl fg a1 a2 a3 a4 a5 a6 a7 a8 a9 a10 a11 a12 := by
  obtain ⟨hfl, hfg, h1, h2, h2', h3, h4, h5, h6, h70, h71⟩ := h
  refine br_t rfl (bl_tk1 hb h1 h2 h3 (by omega) (fun e u => ?_) (fun e u => ?_))
  · obtain ⟨c0, c00, c1, c2, c3, c4, c5, c6, c7, c8, c9, c10, c11, c12⟩ := u
    exact br_t rfl (br_t (by rw [e, nI_0]) (br_t h4 H))
  · obtain ⟨c0, c00, c1, c2, c3, c4, c5, c6, c7, c8, c9, c10, c11, c12⟩ := u
    exact br_t rfl (br_f (nI_ne0 (by omega) (by omega)) (br_t rfl H))
theorem bl_227A {z : Int32} (hb : b < 4) (hl : 8 ≤ l) (hl' : l ≤ 60) (hm : m ≤ 200) (hg : g = l - m) (h : bl_A b l g (x2 &&& 7) ld (fl, fg, a1, a2, a3, a4, a5, a6, a7, a8, a9, a10, a11, a12)) (H : post 1 ()) : wL_lawOf_227 post mc ms x2 (nI b) (nI m) 0 (nI g) z z kc ks fl fg a1 a2 a3 a4 a5 a6 a7 a8 a9 a10 a11 a12 := by
  have h' := h
  obtain ⟨hfl, hfg, h1, h2, h2', h3, h4, h5, h6, h70, h71⟩ := h'
  exact br_t rfl (bl_ro1 hb hfl hl hl' h2 h5 (by omega)
    (fun e => br_t rfl (pk_le m 3 (fun _ => bl_255A hb (by omega) h H) (fun q => absurd q (by omega))))
    (fun e => br_t rfl (pk_le m 3 (fun q => absurd q (by omega)) (fun _ => bl_255A hb (by omega) h H))))
theorem bl_180A (hb : b < 4) (hl : 8 ≤ l) (hl' : l ≤ 60) (hm : m ≤ 200) (hg : g = l - m) (h : bl_A b l g (x2 &&& 7) ld (fl, fg, a1, a2, a3, a4, a5, a6, a7, a8, a9, a10, a11, a12)) (H : post 1 ()) : wL_lawOf_180 post mc ms x2 (nI b) (nI m) 0 (nI g) kc ks fl fg a1 a2 a3 a4 a5 a6 a7 a8 a9 a10 a11 a12 := by
  have h' := h
  obtain ⟨hfl, hfg, h1, h2, h2', h3, h4, h5, h6, h70, h71⟩ := h'
  unfold wL_lawOf_180
  refine bl_pl1 hb h1 h2 h3 (br_t rfl (br_t rfl (bl_mv1 hb h1 h2 h3 (by omega) (fun e => ?_) (fun e => ?_))))
  · exact br_t rfl (br_t (by rw [e, nI_0]) (bl_227A hb hl hl' hm hg h H))
  · exact br_t rfl (br_f (nI_ne0 (by omega) (by omega)) (bl_227A hb hl hl' hm hg h H))
theorem bl_141A (hb : b < 4) (hl : 8 ≤ l) (hl' : l ≤ 60) (hm : m ≤ 200) (h : bl_A b l (l - m) (x2 &&& 7) ld (fl, fg, a1, a2, a3, a4, a5, a6, a7, a8, a9, a10, a11, a12)) (H : post 1 ()) : wL_lawOf_141 post mc ms x2 (nI l) (nI b) (nI m) 0 0 (fg - 0) kc ks fl fg a1 a2 a3 a4 a5 a6 a7 a8 a9 a10 a11 a12 := by
  have hfg : fg = 0 := h.2.1
  subst hfg
  have E : ∀ x : Int32, x = nI (l - m) → wL_lawOf_180 post mc ms x2 (nI b) (nI m) 0 x kc ks fl 0 a1 a2 a3 a4 a5 a6 a7 a8 a9 a10 a11 a12 := by
    intro x e
    rw [e]
    exact bl_180A hb hl hl' hm rfl h H
  refine br_t (by decide) ?_
  unfold wpX_out
  dsimp only
  exact br_t rfl (br_t rfl (pk_le l m (fun q => E 0 (by rw [show l - m = 0 by omega, nI_0])) (fun q => E _ (pk_sub (by omega)))))
theorem bl_255B {x11 : Int32} (hb : b < 4) (h : bl_B (fl, fg, a1, a2, a3, a4, a5, a6, a7, a8, a9, a10, a11, a12)) (H : post 1 ()) : wL_lawOf_255 post mc ms x2 (nI b) 1 x11 1 1 kc ks fl fg a1 a2 a3 a4 a5 a6 a7 a8 a9 a10 a11 a12 := by
  obtain ⟨hfg, h2, h70, h71⟩ := h
  exact br_t rfl (bl_tk0 hb (h2 b hb) (br_f (by decide) (br_t rfl H)))
theorem bl_180B {x11 : Int32} (hb : b < 4) (h : bl_B (fl, fg, a1, a2, a3, a4, a5, a6, a7, a8, a9, a10, a11, a12)) (H : post 1 ()) : wL_lawOf_180 post mc ms x2 (nI b) (nI m) 1 x11 kc ks fl fg a1 a2 a3 a4 a5 a6 a7 a8 a9 a10 a11 a12 := by
  have h' := h
  obtain ⟨hfg, h2, h70, h71⟩ := h'
  unfold wL_lawOf_180
  exact bl_pl0 hb (h2 b hb) (br_f (by decide) (br_t rfl (bl_mv0 hb (h2 b hb) (br_f (by decide) (br_t rfl (bl_ro0 hb (h2 b hb) (br_f (by decide) (bl_255B hb h H))))))))
theorem bl_141B {x6 : Int32} (hb : b < 4) (h : bl_B (fl, fg, a1, a2, a3, a4, a5, a6, a7, a8, a9, a10, a11, a12)) (H : post 1 ()) : wL_lawOf_141 post mc ms x2 x6 (nI b) (nI m) 1 1 (fg - 0) kc ks fl fg a1 a2 a3 a4 a5 a6 a7 a8 a9 a10 a11 a12 := by
  have hfg : fg = 1 := h.1
  subst hfg
  refine br_t (by decide) ?_
  unfold wpX_out
  dsimp only
  exact br_f (by decide) (br_t rfl (br_c (fun _ => bl_180B hb h H) (fun _ => bl_180B hb h H)))
/-- the ticks and all behind them -/
theorem bl_104 {o : Bool} {n : Int32} (hb : b < 4) (hl : 8 ≤ l) (hl' : l ≤ 60) (hn : bl_cl n m) (h : bl_A b l l (x2 &&& 7) (bl_ld o) (fl, 0, a1, a2, a3, a4, a5, a6, a7, a8, a9, a10, a11, a12)) (H : post 1 ()) : wL_lawOf_104 post mc ms x2 n (nI l) (nI b) (if o = true then 1 else 0) (nI m) kc ks fl 0 a1 a2 a3 a4 a5 a6 a7 a8 a9 a10 a11 a12 := by
  have hm := hn.1
  have T0 : bl_T o b l (x2 &&& 7) 0 (fl, 0, a1, a2, a3, a4, a5, a6, a7, a8, a9, a10, a11, a12) := Or.inl ⟨fun z => absurd z.2 (by omega), h⟩
  have A : ¬ (o = true ∧ l < m) → wL_lawOf_123 post mc ms x2 n (nI l) (nI b) (nI m) 0 kc ks fl 0 a1 a2 a3 a4 a5 a6 a7 a8 a9 a10 a11 a12 := by
    intro hc
    unfold wL_lawOf_123
    refine bl_tick hb hl' hn T0 (fun v hv => ?_)
    obtain ⟨cl, cg, c1, c2, c3, c4, c5, c6, c7, c8, c9, c10, c11, c12⟩ := v
    rcases hv with ⟨_, hv⟩ | ⟨hv, _⟩
    · exact br_t rfl (bl_141A hb hl hl' hm hv H)
    · exact absurd hv hc
  have B : (o = true ∧ l < m) → wL_lawOf_123 post mc ms x2 n (nI l) (nI b) (nI m) 1 kc ks fl 0 a1 a2 a3 a4 a5 a6 a7 a8 a9 a10 a11 a12 := by
    intro hc
    unfold wL_lawOf_123
    refine bl_tick hb hl' hn T0 (fun v hv => ?_)
    obtain ⟨cl, cg, c1, c2, c3, c4, c5, c6, c7, c8, c9, c10, c11, c12⟩ := v
    rcases hv with ⟨hv, _⟩ | ⟨_, hv⟩
    · exact absurd hc hv
    · exact br_f (by decide) (bl_141B hb hv H)
  cases o with
  | false => exact br_t rfl (A (fun z => absurd z.1 (by decide)))
  | true => exact br_f (by decide) (pk_le m l (fun q => A (fun z => absurd z.2 (by omega))) (fun q => B ⟨rfl, q⟩))
theorem bl_70 {o : Bool} {n : Int32} (hb : b < 4) (hl : 8 ≤ l) (hl' : l ≤ 60) (hn : bl_cl n m) (hfl : fl = nI l) (h1 : ∀ k, a1 k = 0) (h2 : ∀ k, a2 k = 0) (h5 : ∀ k, a5 k = 0) (h6 : a6 b = bl_ld o) (h7 : ∀ k, a7 k = 0) (H : post 1 ()) : wL_lawOf_70 post mc ms x2 n (nI l) (nI b) (if o = true then 1 else 0) kc ks fl 0 a1 a2 a3 a4 a5 a6 a7 a8 a9 a10 a11 a12 := by
  obtain ⟨q, hq, eq⟩ := pk_andE x2 (m := 7) 3 (by decide)
  have P : bl_A b l l (x2 &&& 7) (bl_ld o) (fl, 0, a1, upd a2 b 1, upd a3 (b * 16) fl, upd a4 (b * 16) (nI q), upd a5 b fl, a6, a7, a8, a9, a10, a11, a12) :=
    ⟨hfl, rfl, h1 b, pk_us, fun k _ e => by rw [pk_un e]; exact h2 k, by rw [pk_us]; exact hfl, by rw [pk_us]; exact eq.symm, by rw [pk_us]; exact hfl, h6, h7 0, h7 1⟩
  have R : wL_lawOf_104 post mc ms x2 n (nI l) (nI b) (if o = true then 1 else 0) (nI m) kc ks fl 0 a1 (upd a2 b 1) (upd a3 (b * 16) fl) (upd a4 (b * 16) (nI q)) (upd a5 b fl) a6 a7 a8 a9 a10 a11 a12 := bl_104 hb hl hl' hn P H
  unfold wL_lawOf_70
  rw [eq]
  refine bl_put hb hq (h1 b) (h2 b) (h5 b) (fun r => ?_)
  obtain ⟨hm, e | ⟨h0, e⟩ | ⟨h8, h9, e⟩⟩ := hn
  · rw [e] at R ⊢
    exact br_t (nI_pos' (by omega)) (br_t (nI_le (b := 200) hm (by decide)) R)
  · rw [e, nI_0] at R
    exact br_f (bl_neg h0).2.2 R
  · rw [e] at R
    exact br_t (bl_nn h9) (br_f h8 R)
theorem bl_53 {o : Bool} {n : Int32} (hb : b < 4) (hl : 8 ≤ l) (hl' : l ≤ 60) (hn : bl_cl n m) (h : bl_N l (fl, fg, a1, a2, a3, a4, a5, a6, a7, a8, a9, a10, a11, a12)) (H : post 1 ()) : wL_lawOf_53 post mc ms x2 n (nI l) (nI b) (if o = true then 1 else 0) kc ks fl fg a1 a2 a3 a4 a5 a6 a7 a8 a9 a10 a11 a12 := by
  obtain ⟨hfl, hfg, h1, h2, h5, h6, h7⟩ := h
  subst hfg
  cases o with
  | false => exact br_t rfl (bl_70 (o := false) hb hl hl' hn hfl h1 h2 h5 (h6 b hb) h7 H)
  | true => exact br_f (by decide) (bl_lead hb (fun r => bl_70 (o := true) hb hl hl' hn hfl h1 h2 h5 pk_us h7 H))
end
theorem bl_33 {post : Int32 → St0 → Prop} {mc ms kc ks l : Nat} {p1 p2 p3 p4 : Int32} {u : St2} (hl : 8 ≤ l) (hl' : l ≤ 60) (h : bl_N l u) (H : post 1 ()) : wL_lawOf_33 post mc ms p1 p2 p3 p4 (nI l) kc ks u.1 u.2.1 u.2.2.1 u.2.2.2.1 u.2.2.2.2.1 u.2.2.2.2.2.1 u.2.2.2.2.2.2.1 u.2.2.2.2.2.2.2.1 u.2.2.2.2.2.2.2.2.1 u.2.2.2.2.2.2.2.2.2.1 u.2.2.2.2.2.2.2.2.2.2.1 u.2.2.2.2.2.2.2.2.2.2.2.1 u.2.2.2.2.2.2.2.2.2.2.2.2.1 u.2.2.2.2.2.2.2.2.2.2.2.2.2 := by
  obtain ⟨fl, fg, a1, a2, a3, a4, a5, a6, a7, a8, a9, a10, a11, a12⟩ := u
  obtain ⟨b, hb, eb⟩ := pk_andE p1 (m := 3) 2 (by decide)
  obtain ⟨m, hm⟩ := bl_cl_ex p3
  refine nm_r eb (br_c (fun _ => ?_) (fun _ => ?_))
  · exact bl_53 (o := true) hb hl hl' hm h H
  · exact bl_53 (o := false) hb hl hl' hm h H
theorem bl_lawOf {post : Int32 → St0 → Prop} {p0 p1 p2 p3 p4 : Int32} (H : post 1 ()) : wpL_lawOf post 13 170 () p0 p1 p2 p3 p4 := by
  obtain ⟨l, hp⟩ := bl_len_ex p0
  refine ⟨by decide, by decide, 12, 156, by decide, by decide, bl_init hp (fun u hu => ?_)⟩
  obtain ⟨fl, fg, a1, a2, a3, a4, a5, a6, a7, a8, a9, a10, a11, a12⟩ := u
  obtain ⟨hl, hl', ⟨h0, h1, e⟩ | ⟨h0, e⟩ | ⟨h0, h1, e⟩⟩ := hp
  · have R := bl_33 (post := post) (mc := 13) (ms := 170) (kc := 1 + 12) (ks := 14 + 156) (p1 := p1) (p2 := p2) (p3 := p3) (p4 := p4) hl hl' hu H
    rw [← e] at R
    exact br_t h0 (br_t h1 R)
  · subst e
    exact br_f h0 (bl_33 hl hl' hu H)
  · subst e
    exact br_t h0 (br_f h1 (bl_33 hl hl' hu H))
theorem bl_cell {post : Int32 → Prop} {L : Nat} {xs : Nat → Int32} (i : Nat) (hL : L ≤ 5) (hi : i < 5) (H : ∀ v, post v) : wpL_cellAt post L xs () (nI i) :=
  pk_le L i (fun _ => H 0) (fun h => ⟨pk_in i L h, H _⟩)
theorem i_vc (xs : Nat → Int32) (L : Nat) (hL : L ≤ 5) : wpL_law (fun r => r = 1) L xs := by
  unfold wpL_law
  exact bl_cell 0 hL (by decide) (fun r1 => bl_cell 1 hL (by decide) (fun r2 => bl_cell 2 hL (by decide) (fun r3 => bl_cell 3 hL (by decide) (fun r4 => bl_cell 4 hL (by decide) (fun r5 => ⟨13, 170, by decide, by decide, bl_lawOf rfl⟩)))))
end
