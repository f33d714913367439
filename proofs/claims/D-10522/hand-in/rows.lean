section
/-! TemporalLift: one lemma a method, the post general -/
def tl_Fr (f : Int32) : Prop := ¬ f < 0 ∧ ¬ 3 < f
def tl_In (x y : Int32) : Prop := ¬ x < 0 ∧ ¬ 7 < x ∧ ¬ y < 0 ∧ ¬ 7 < y
def tl_Sl (s : Int32) : Prop := s = 0 ∨ s = 1
theorem tl_nI4 {x : Int32} (a : ¬ x < 0) (c : ¬ 3 < x) : ∃ j : Nat, j ≤ 3 ∧ x = nI j :=
  nI_of2 (M := 3) (n := 3) (by decide) a (Int32.not_lt.mp c)
theorem tl_nI8 {x : Int32} (a : ¬ x < 0) (c : ¬ 7 < x) : ∃ j : Nat, j ≤ 7 ∧ x = nI j :=
  nI_of2 (M := 7) (n := 7) (by decide) a (Int32.not_lt.mp c)
theorem tl_at {f x y : Int32} (hf : tl_Fr f) (hi : tl_In x y) : ∃ q c : Nat, q ≤ 3 ∧ c < 64 ∧ f = nI q ∧ ((64 * f) + (8 * y)) + x = nI (64 * q + c) := by
  obtain ⟨q, hq, rfl⟩ := tl_nI4 hf.1 hf.2
  obtain ⟨i, hx, rfl⟩ := tl_nI8 hi.1 hi.2.1
  obtain ⟨j, hy, rfl⟩ := tl_nI8 hi.2.2.1 hi.2.2.2
  refine ⟨q, 8 * j + i, hq, by omega, rfl, ?_⟩
  rw [show (64 : Int32) = nI 64 from rfl, show (8 : Int32) = nI 8 from rfl, pk_mul, pk_mul, nI_add, nI_add, Nat.add_assoc]
theorem tl_64 (q : Nat) : (64 * nI q) + 64 = nI (64 * q + 64) := by
  rw [show (64 : Int32) = nI 64 from rfl, pk_mul, nI_add]
theorem tl_abs : ∀ v, v < 256 → (0 ≤ (0 : Int32) - nI v → (0 : Int32) + (0 - nI v) = nI v) ∧ ((0 : Int32) + (-(0 - nI v)) = nI v) := by decide +kernel
theorem tl_isFrame {post : Int32 → Prop} {f : Int32} (h1 : tl_Fr f → post 1) (h0 : ¬ tl_Fr f → post 0) : wpX_isFrame post () f :=
  br_c (fun a => h0 (fun h => h.1 a)) (fun a => br_c (fun c => h0 (fun h => h.2 c)) (fun c => h1 ⟨a, c⟩))
theorem tl_isInside {post : Int32 → Prop} {x y : Int32} (h1 : tl_In x y → post 1) (h0 : ¬ tl_In x y → post 0) : wpX_isInside post () x y :=
  br_c (fun a => h0 (fun h => h.1 a)) (fun a => br_c (fun c => h0 (fun h => h.2.1 c)) (fun c => br_c (fun d => h0 (fun h => h.2.2.1 d)) (fun d => br_c (fun e => h0 (fun h => h.2.2.2 e)) (fun e => h1 ⟨a, c, d, e⟩))))
theorem tl_isSlot {post : Int32 → Prop} {s : Int32} (h1 : tl_Sl s → post 1) (h0 : ¬ tl_Sl s → post 0) : wpX_isSlot post () s :=
  br_c (fun a => h1 (Or.inl a)) (fun a => br_c (fun c => h1 (Or.inr c)) (fun c => h0 (fun h => h.elim a c)))
theorem tl_slIn {s : Int32} (h : tl_Sl s) : vp_in s 2 := by
  rcases h with rfl | rfl
  · exact pk_in 0 2 (by omega)
  · exact pk_in 1 2 (by omega)
/-! the constructor -/
theorem tl_init {post : St2 → Prop} {b p : Int32} (H : ∀ a3 a4 : Nat → Int32, post (b, p, (fun _ => 0), (fun _ => 0), a3, a4, (fun _ => 0), (fun _ => 0), (fun _ => 0), (fun _ => 0), (fun _ => 0), (fun _ => 0), (fun _ => 0), (fun _ => 0))) : wpX_init post 12 1958 (b, p) := by
  unfold wpX_init
  refine ⟨by decide, by decide, by decide, by decide, by decide, by decide, by decide, by decide, by decide, by decide, by decide, by decide, by decide, by decide, by decide, by decide, by decide, by decide, by decide, by decide, by decide, by decide, by decide, by decide, ?_⟩
  exact pk_loop (σ := (Nat → Int32) × (Nat → Int32)) (fun n i s => wX_init_108 post 12 1958 12 1958 b p n (nI i) (fun _ => 0) (fun _ => 0) s.1 s.2 (fun _ => 0) (fun _ => 0) (fun _ => 0) (fun _ => 0) (fun _ => 0) (fun _ => 0) (fun _ => 0) (fun _ => 0)) (fun _ _ => True) 12 0 ((fun _ => 0), (fun _ => 0)) (by omega) trivial
    (fun n s _ => pk_le 12 12 (fun _ => H s.1 s.2) (fun z => absurd z (by omega)))
    (fun n i s hi _ hw => pk_le 12 i (fun z => absurd z (by omega)) (fun _ => ⟨pk_in i 12 hi, nm_e ⟨pk_in i 12 hi, nm_e (nm_r (nI_1 i) (hw (_, _) trivial))⟩⟩))
/-! put, pixel: A: no frame; B: a frame, no place; C: both -/
theorem tl_putA {post : Int32 → St2 → Prop} {f x y v : Int32} {b p : Int32} {a1 a2 a3 a4 a5 a6 a7 a8 a9 a10 a11 a12 : Nat → Int32} (h : ¬ tl_Fr f) (H : post (-1) (b, p, a1, a2, a3, a4, a5, a6, a7, a8, a9, a10, a11, a12)) : wpX_put post (b, p, a1, a2, a3, a4, a5, a6, a7, a8, a9, a10, a11, a12) f x y v := by
  unfold wpX_put
  exact tl_isFrame (fun z => absurd z h) (fun _ => br_t rfl H)
theorem tl_putB {post : Int32 → St2 → Prop} {f x y v : Int32} {b p : Int32} {a1 a2 a3 a4 a5 a6 a7 a8 a9 a10 a11 a12 : Nat → Int32} (h : tl_Fr f) (h' : ¬ tl_In x y) (H : post (-2) (b, p, a1, a2, a3, a4, a5, a6, a7, a8, a9, a10, a11, a12)) : wpX_put post (b, p, a1, a2, a3, a4, a5, a6, a7, a8, a9, a10, a11, a12) f x y v := by
  unfold wpX_put
  exact tl_isFrame (fun _ => br_f (by decide) (tl_isInside (fun z => absurd z h') (fun _ => br_t rfl H))) (fun z => absurd h z)
theorem tl_putC {post : Int32 → St2 → Prop} {f x y v : Int32} {b p : Int32} {a1 a2 a3 a4 a5 a6 a7 a8 a9 a10 a11 a12 : Nat → Int32} {k : Nat} (h : tl_Fr f) (h' : tl_In x y) (e : ((64 * f) + (8 * y)) + x = nI k) (hk : k < 256) (H : post (a1 k) (b, p, upd a1 k (v &&& 255), a2, a3, a4, a5, a6, a7, a8, a9, a10, a11, a12)) : wpX_put post (b, p, a1, a2, a3, a4, a5, a6, a7, a8, a9, a10, a11, a12) f x y v := by
  unfold wpX_put
  refine tl_isFrame (fun _ => br_f (by decide) (tl_isInside (fun _ => br_f (by decide) (nm_r e ⟨pk_in k 256 hk, ?_⟩)) (fun z => absurd h' z))) (fun z => absurd h z)
  rw [nI_clamp (show k < 2 ^ 31 by omega)]
  exact nm_e ⟨pk_in k 256 hk, nm_e H⟩
theorem tl_pixA {post : Int32 → Prop} {f x y : Int32} {b p : Int32} {a1 a2 a3 a4 a5 a6 a7 a8 a9 a10 a11 a12 : Nat → Int32} (h : ¬ tl_Fr f) (H : post (-1)) : wpX_pixel post (b, p, a1, a2, a3, a4, a5, a6, a7, a8, a9, a10, a11, a12) f x y := by
  unfold wpX_pixel
  exact tl_isFrame (fun z => absurd z h) (fun _ => br_t rfl H)
theorem tl_pixB {post : Int32 → Prop} {f x y : Int32} {b p : Int32} {a1 a2 a3 a4 a5 a6 a7 a8 a9 a10 a11 a12 : Nat → Int32} (h : tl_Fr f) (h' : ¬ tl_In x y) (H : post (-2)) : wpX_pixel post (b, p, a1, a2, a3, a4, a5, a6, a7, a8, a9, a10, a11, a12) f x y := by
  unfold wpX_pixel
  exact tl_isFrame (fun _ => br_f (by decide) (tl_isInside (fun z => absurd z h') (fun _ => br_t rfl H))) (fun z => absurd h z)
theorem tl_pixC {post : Int32 → Prop} {f x y : Int32} {b p : Int32} {a1 a2 a3 a4 a5 a6 a7 a8 a9 a10 a11 a12 : Nat → Int32} {k : Nat} (h : tl_Fr f) (h' : tl_In x y) (e : ((64 * f) + (8 * y)) + x = nI k) (hk : k < 256) (H : post (a1 k)) : wpX_pixel post (b, p, a1, a2, a3, a4, a5, a6, a7, a8, a9, a10, a11, a12) f x y := by
  unfold wpX_pixel
  refine tl_isFrame (fun _ => br_f (by decide) (tl_isInside (fun _ => br_f (by decide) ?_) (fun z => absurd h' z))) (fun z => absurd h z)
  rw [e, nI_clamp (show k < 2 ^ 31 by omega)]
  exact ⟨pk_in k 256 hk, H⟩
/-! difference: at most one cell of the frame differs from 0 -/
theorem tl_difA {post : Int32 → Prop} {f : Int32} {b p : Int32} {a1 a2 a3 a4 a5 a6 a7 a8 a9 a10 a11 a12 : Nat → Int32} (h : ¬ tl_Fr f) (H : post (-1)) : wpX_difference post (b, p, a1, a2, a3, a4, a5, a6, a7, a8, a9, a10, a11, a12) f := by
  unfold wpX_difference
  exact tl_isFrame (fun z => absurd z h) (fun _ => br_t rfl H)
theorem tl_dif {post : Int32 → Prop} {b p : Int32} {a1 a2 a3 a4 a5 a6 a7 a8 a9 a10 a11 a12 : Nat → Int32} {q c v : Nat} (hq : q ≤ 3) (hc : c < 64) (hv : v < 256) (hf : tl_Fr (nI q)) (h2 : ∀ j, a2 j = 0) (h1 : ∀ j, a1 j = if j = 64 * q + c then nI v else 0) (H : post (nI v)) : wpX_difference post (b, p, a1, a2, a3, a4, a5, a6, a7, a8, a9, a10, a11, a12) (nI q) := by
  unfold wpX_difference
  refine tl_isFrame (fun _ => br_f (by decide) (nm_r (pk_mul 64 q) ?_)) (fun z => absurd hf z)
  refine pk_loop (σ := Int32) (fun n i s => wX_difference_16 post (nI q) b p a1 a2 a3 a4 a5 a6 a7 a8 a9 a10 a11 a12 n s (nI i)) (fun i s => s = if 64 * q + c < i then nI v else 0) (64 * q + 64) (64 * q) 0 (by omega) ?_ ?_ ?_
  · show (0 : Int32) = if 64 * q + c < 64 * q then nI v else 0
    rw [if_neg (by omega)]
  · intro n s h
    have hs : s = nI v := by
      have h' : s = if 64 * q + c < 64 * q + 64 then nI v else 0 := h
      rw [h', if_pos (by omega)]
    exact pk_le (64 * q + 64) (64 * q + 64) (fun _ => by rw [hs]; exact H) (fun z => absurd z (by omega)) (tl_64 q)
  · intro n i s hi h hw
    have h' : s = if 64 * q + c < i then nI v else 0 := h
    by_cases e : i = 64 * q + c
    · have hd : a2 (nI i).toNatClampNeg - a1 (nI i).toNatClampNeg = 0 - nI v := by
        rw [nI_clamp (show i < 2 ^ 31 by omega), h2, h1, if_pos e]
      have hs : s = 0 := by rw [h', if_neg (by omega)]
      have hn : nI v = if 64 * q + c < i + 1 then nI v else 0 := by rw [if_pos (by omega)]
      have ha := tl_abs v hv
      subst hs
      exact pk_le (64 * q + 64) i (fun z => absurd z (by omega)) (fun _ => ⟨pk_in i 256 (by omega), pk_in i 256 (by omega), nm_r hd (br_c (fun g => nm_r (ha.1 g) (nm_r (nI_1 i) (hw _ hn))) (fun g => nm_r ha.2 (nm_r (nI_1 i) (hw _ hn))))⟩) (tl_64 q)
    · have hd : a2 (nI i).toNatClampNeg - a1 (nI i).toNatClampNeg = 0 := by
        rw [nI_clamp (show i < 2 ^ 31 by omega), h2, h1, if_neg e]
        rfl
      have hn : s = if 64 * q + c < i + 1 then nI v else 0 := by
        rw [h']
        by_cases g : 64 * q + c < i
        · rw [if_pos g, if_pos (by omega)]
        · rw [if_neg g, if_neg (by omega)]
      exact pk_le (64 * q + 64) i (fun z => absurd z (by omega)) (fun _ => ⟨pk_in i 256 (by omega), pk_in i 256 (by omega), nm_r hd (br_t (by decide) (nm_r (Int32.add_zero s) (nm_r (nI_1 i) (hw _ hn))))⟩) (tl_64 q)
/-! decode, filled, erase over empty slots -/
theorem tl_decode0 {post : Int32 → St2 → Prop} {s : Int32} {b p : Int32} {a1 a2 a3 a4 a5 a6 a7 a8 a9 a10 a11 a12 : Nat → Int32} (h : ¬ tl_Sl s) (H : post (-1) (b, p, a1, a2, a3, a4, a5, a6, a7, a8, a9, a10, a11, a12)) : wpX_decode post (b, p, a1, a2, a3, a4, a5, a6, a7, a8, a9, a10, a11, a12) s := by
  unfold wpX_decode
  exact tl_isSlot (fun z => absurd z h) (fun _ => br_t rfl H)
theorem tl_decode1 {post : Int32 → St2 → Prop} {s : Int32} {b p : Int32} {a1 a2 a3 a4 a5 a6 a7 a8 a9 a10 a11 a12 : Nat → Int32} (h : tl_Sl s) (h6 : ∀ j, a6 j = 0) (H : post (-2) (b, p, a1, a2, a3, a4, a5, a6, a7, a8, a9, a10, a11, a12)) : wpX_decode post (b, p, a1, a2, a3, a4, a5, a6, a7, a8, a9, a10, a11, a12) s := by
  unfold wpX_decode
  exact tl_isSlot (fun _ => br_f (by decide) ⟨tl_slIn h, br_t (h6 _) H⟩) (fun z => absurd h z)
theorem tl_filled0 {post : Int32 → Prop} {s : Int32} {b p : Int32} {a1 a2 a3 a4 a5 a6 a7 a8 a9 a10 a11 a12 : Nat → Int32} (h : ¬ tl_Sl s) (H : post (-1)) : wpX_filled post (b, p, a1, a2, a3, a4, a5, a6, a7, a8, a9, a10, a11, a12) s := by
  unfold wpX_filled
  exact tl_isSlot (fun z => absurd z h) (fun _ => br_t rfl H)
theorem tl_filled1 {post : Int32 → Prop} {s : Int32} {b p : Int32} {a1 a2 a3 a4 a5 a6 a7 a8 a9 a10 a11 a12 : Nat → Int32} (h : tl_Sl s) (h6 : ∀ j, a6 j = 0) (H : post 0) : wpX_filled post (b, p, a1, a2, a3, a4, a5, a6, a7, a8, a9, a10, a11, a12) s := by
  unfold wpX_filled
  exact tl_isSlot (fun _ => br_f (by decide) ⟨tl_slIn h, br_t (h6 _) H⟩) (fun z => absurd h z)
theorem tl_erase0 {post : Int32 → St2 → Prop} {s : Int32} {b p : Int32} {a1 a2 a3 a4 a5 a6 a7 a8 a9 a10 a11 a12 : Nat → Int32} (h : ¬ tl_Sl s) (H : post (-1) (b, p, a1, a2, a3, a4, a5, a6, a7, a8, a9, a10, a11, a12)) : wpX_erase post (b, p, a1, a2, a3, a4, a5, a6, a7, a8, a9, a10, a11, a12) s := by
  unfold wpX_erase
  exact tl_isSlot (fun z => absurd z h) (fun _ => br_t rfl H)
theorem tl_erase1 {post : Int32 → St2 → Prop} {s : Int32} {b p : Int32} {a1 a2 a3 a4 a5 a6 a7 a8 a9 a10 a11 a12 : Nat → Int32} (h : tl_Sl s) (h6 : ∀ j, a6 j = 0) (H : ∀ a, post 0 (b, p, a1, a2, a3, a4, a5, a, a7, a8, a9, a10, a11, a12)) : wpX_erase post (b, p, a1, a2, a3, a4, a5, a6, a7, a8, a9, a10, a11, a12) s := by
  unfold wpX_erase
  exact tl_isSlot (fun _ => br_f (by decide) ⟨tl_slIn h, br_t (h6 _) ⟨tl_slIn h, nm_e (H _)⟩⟩) (fun z => absurd h z)
end
section
/-! the law, from its end to its head -/
theorem tl_174a {post : Int32 → St0 → Prop} {mc ms kc ks : Nat} {s : Int32} {b p : Int32} {a1 a2 a3 a4 a5 a6 a7 a8 a9 a10 a11 a12 : Nat → Int32} (h : tl_Sl s) (h6 : ∀ j, a6 j = 0) (H : post 1 ()) : wL_lawOf_174 post mc ms s 1 kc ks b p a1 a2 a3 a4 a5 a6 a7 a8 a9 a10 a11 a12 := by
  unfold wL_lawOf_174
  refine tl_decode1 h h6 (br_f (by decide) ?_)
  unfold wL_lawOf_194
  refine br_t rfl (tl_filled1 h h6 (br_f (by decide) ?_))
  unfold wL_lawOf_216
  refine br_t rfl (tl_erase1 h h6 (fun a => br_f (by decide) ?_))
  exact br_t rfl H
theorem tl_174b {post : Int32 → St0 → Prop} {mc ms kc ks : Nat} {s : Int32} {b p : Int32} {a1 a2 a3 a4 a5 a6 a7 a8 a9 a10 a11 a12 : Nat → Int32} (h : ¬ tl_Sl s) (H : post 1 ()) : wL_lawOf_174 post mc ms s 0 kc ks b p a1 a2 a3 a4 a5 a6 a7 a8 a9 a10 a11 a12 := by
  unfold wL_lawOf_174
  refine tl_decode0 h (br_t rfl ?_)
  unfold wL_lawOf_194
  refine br_t rfl (tl_filled0 h (br_t rfl ?_))
  unfold wL_lawOf_216
  refine br_t rfl (tl_erase0 h (br_t rfl ?_))
  exact br_t rfl H
theorem tl_153 {post : Int32 → St0 → Prop} {mc ms kc ks : Nat} {s z : Int32} {b p : Int32} {a1 a2 a3 a4 a5 a6 a7 a8 a9 a10 a11 a12 : Nat → Int32} (h6 : ∀ j, a6 j = 0) (H : post 1 ()) : wL_lawOf_153 post mc ms s z z kc ks b p a1 a2 a3 a4 a5 a6 a7 a8 a9 a10 a11 a12 := by
  unfold wL_lawOf_153
  refine br_t rfl (br_c (fun h => ?_) (fun h => br_c (fun h' => ?_) (fun h' => ?_)))
  · unfold wL_lawOf_169
    exact tl_174a (Or.inl h) h6 H
  · unfold wL_lawOf_169
    exact tl_174a (Or.inr h') h6 H
  · exact tl_174b (fun t => t.elim h h') H
theorem tl_50A {post : Int32 → St0 → Prop} {mc ms kc ks : Nat} {f x y v s z : Int32} {b p : Int32} {a1 a2 a3 a4 a5 a6 a7 a8 a9 a10 a11 a12 : Nat → Int32} (hf : ¬ tl_Fr f) (h6 : ∀ j, a6 j = 0) (H : post 1 ()) : wL_lawOf_50 post mc ms f x y v s 0 z kc ks b p a1 a2 a3 a4 a5 a6 a7 a8 a9 a10 a11 a12 := by
  unfold wL_lawOf_50
  refine nm_e (tl_putA hf (br_t rfl ?_))
  unfold wL_lawOf_88
  refine br_t rfl (tl_pixA hf (br_t rfl ?_))
  unfold wL_lawOf_122
  exact br_t rfl (tl_difA hf (br_t rfl (tl_153 h6 H)))
theorem tl_50B {post : Int32 → St0 → Prop} {mc ms kc ks : Nat} {f x y v s : Int32} {b p : Int32} {a1 a2 a3 a4 a5 a6 a7 a8 a9 a10 a11 a12 : Nat → Int32} (hf : tl_Fr f) (hi : ¬ tl_In x y) (h1 : ∀ j, a1 j = 0) (h2 : ∀ j, a2 j = 0) (h6 : ∀ j, a6 j = 0) (H : post 1 ()) : wL_lawOf_50 post mc ms f x y v s 1 0 kc ks b p a1 a2 a3 a4 a5 a6 a7 a8 a9 a10 a11 a12 := by
  unfold wL_lawOf_50
  refine nm_e (tl_putB hf hi (br_f (by decide) (br_t rfl ?_)))
  unfold wL_lawOf_88
  refine br_t rfl (tl_pixB hf hi (br_f (by decide) (br_t rfl ?_)))
  unfold wL_lawOf_122
  obtain ⟨q, hq, rfl⟩ := tl_nI4 hf.1 hf.2
  refine br_t rfl (tl_dif (c := 0) (v := 0) hq (by omega) (by omega) hf h2 (fun j => ?_) (br_f (by decide) (br_t rfl (tl_153 h6 H))))
  rw [h1]
  by_cases g : j = 64 * q + 0
  · rw [if_pos g]
    rfl
  · rw [if_neg g]
theorem tl_50C {post : Int32 → St0 → Prop} {mc ms kc ks : Nat} {f x y v s : Int32} {b p : Int32} {a1 a2 a3 a4 a5 a6 a7 a8 a9 a10 a11 a12 : Nat → Int32} (hf : tl_Fr f) (hi : tl_In x y) (h1 : ∀ j, a1 j = 0) (h2 : ∀ j, a2 j = 0) (h6 : ∀ j, a6 j = 0) (H : post 1 ()) : wL_lawOf_50 post mc ms f x y v s 1 1 kc ks b p a1 a2 a3 a4 a5 a6 a7 a8 a9 a10 a11 a12 := by
  obtain ⟨q, c, hq, hc, ef, e⟩ := tl_at hf hi
  obtain ⟨w, hw, ew⟩ := pk_andE v (m := 255) 8 (by decide)
  have hk : 64 * q + c < 256 := by omega
  unfold wL_lawOf_50
  refine nm_e (tl_putC hf hi e hk ?_)
  rw [ew, h1]
  refine br_f (by decide) (br_f (by decide) ?_)
  unfold wL_lawOf_88
  refine br_t rfl (tl_pixC hf hi e hk ?_)
  rw [pk_us]
  refine br_f (by decide) (br_f (by decide) ?_)
  unfold wL_lawOf_122
  subst ef
  refine br_t rfl (tl_dif hq hc hw hf h2 (fun j => ?_) (br_f (by decide) (br_f (by decide) (tl_153 h6 H))))
  by_cases g : j = 64 * q + c
  · rw [g, pk_us, if_pos rfl]
  · rw [pk_un g, if_neg g, h1]
theorem tl_23A {post : Int32 → St0 → Prop} {mc ms kc ks : Nat} {f x y v s : Int32} {b p : Int32} {a1 a2 a3 a4 a5 a6 a7 a8 a9 a10 a11 a12 : Nat → Int32} (hf : ¬ tl_Fr f) (h6 : ∀ j, a6 j = 0) (H : post 1 ()) : wL_lawOf_23 post mc ms f x y v s 0 kc ks b p a1 a2 a3 a4 a5 a6 a7 a8 a9 a10 a11 a12 :=
  br_c (fun _ => tl_50A hf h6 H) (fun _ => br_c (fun _ => tl_50A hf h6 H) (fun _ => br_c (fun _ => tl_50A hf h6 H) (fun _ => br_c (fun _ => tl_50A hf h6 H) (fun _ => tl_50A hf h6 H))))
theorem tl_23B {post : Int32 → St0 → Prop} {mc ms kc ks : Nat} {f x y v s : Int32} {b p : Int32} {a1 a2 a3 a4 a5 a6 a7 a8 a9 a10 a11 a12 : Nat → Int32} (hf : tl_Fr f) (h1 : ∀ j, a1 j = 0) (h2 : ∀ j, a2 j = 0) (h6 : ∀ j, a6 j = 0) (H : post 1 ()) : wL_lawOf_23 post mc ms f x y v s 1 kc ks b p a1 a2 a3 a4 a5 a6 a7 a8 a9 a10 a11 a12 :=
  br_c (fun a => tl_50B hf (fun t => t.1 a) h1 h2 h6 H) (fun a => br_c (fun c => tl_50B hf (fun t => t.2.1 c) h1 h2 h6 H) (fun c => br_c (fun d => tl_50B hf (fun t => t.2.2.1 d) h1 h2 h6 H) (fun d => br_c (fun e => tl_50B hf (fun t => t.2.2.2 e) h1 h2 h6 H) (fun e => tl_50C hf ⟨a, c, d, e⟩ h1 h2 h6 H))))
theorem tl_lawOf {post : Int32 → St0 → Prop} {f x y v s : Int32} (H : post 1 ()) : wpL_lawOf post 13 1972 () f x y v s := by
  unfold wpL_lawOf
  refine ⟨by decide, by decide, 12, 1958, by decide, by decide, tl_init (fun a3 a4 => ?_)⟩
  exact br_c (fun a => tl_23A (fun t => t.1 a) (fun _ => rfl) H) (fun a => br_c (fun c => tl_23A (fun t => t.2 c) (fun _ => rfl) H) (fun c => tl_23B ⟨a, c⟩ (fun _ => rfl) (fun _ => rfl) (fun _ => rfl) H))
theorem tl_cell {post : Int32 → Prop} {L : Nat} {xs : Nat → Int32} (k : Nat) (hL : L ≤ 5) (hk : k < 5) (H : ∀ r, post r) : wpL_cellAt post L xs () (nI k) :=
  pk_le L k (fun _ => H _) (fun z => ⟨pk_in k L z, H _⟩)
theorem i_vc (xs : Nat → Int32) (L : Nat) (hL : L ≤ 5) : wpL_law (fun r => r = 1) L xs := by
  unfold wpL_law
  refine tl_cell 0 hL (by omega) (fun x0 => tl_cell 1 hL (by omega) (fun x1 => tl_cell 2 hL (by omega) (fun x2 => tl_cell 3 hL (by omega) (fun x3 => tl_cell 4 hL (by omega) (fun x4 => ?_)))))
  exact ⟨13, 1972, by decide, by decide, tl_lawOf rfl⟩
end
