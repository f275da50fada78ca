section
/-! the component's methods, walked once each over a state (nc, lv, le, fc, a1 .. a17) -/
section
variable {nc lv le fc : Int32} {a1 a2 a3 a4 a5 a6 a7 a8 a9 a10 a11 a12 a13 a14 a15 a16 a17 : Nat → Int32}
/-- 12 e + 4 x + c -/
theorem gc_ix (e x c : Nat) : 12 * nI e + 4 * nI x + nI c = nI (12 * e + 4 * x + c) := by
  rw [show (12 : Int32) = nI 12 from rfl, show (4 : Int32) = nI 4 from rfl, pk_mul, pk_mul, nI_add, nI_add]
theorem gc_iy (e q : Nat) : 12 * nI e + nI q = nI (12 * e + q) := by
  rw [show (12 : Int32) = nI 12 from rfl, pk_mul, nI_add]
theorem gc_iz {y : Int32} (hy : y = 0) (e : Nat) : 12 * y + 4 * nI e = nI (4 * e) := by
  rw [hy, show (12 : Int32) * 0 = nI 0 from rfl, show (4 : Int32) = nI 4 from rfl, pk_mul, nI_add, Nat.zero_add]
/-- append at place k -/
theorem gc_append {post : Int32 → St2 → Prop} {p0 p1 p2 p3 p4 : Int32} (k : Nat) (hk : k < 450)
    (h : post (nI k) (nc, lv, nI k + 1, fc, a1, a2, a3, a4, a5, a6, upd a7 k p0.toInt8.toInt32, upd a8 k p1.toInt16.toInt32, upd a9 k p2.toInt16.toInt32, upd a10 k p3, upd a11 k (vp_nar .boolean p4), a12, a13, a14, a15, a16, a17)) :
    wpX_append post (nc, lv, nI k, fc, a1, a2, a3, a4, a5, a6, a7, a8, a9, a10, a11, a12, a13, a14, a15, a16, a17) p0 p1 p2 p3 p4 := by
  have hc : (nI k).toNatClampNeg = k := nI_clamp (by omega)
  have hi : vp_in (nI k) 450 := pk_in k 450 hk
  unfold wpX_append
  dsimp only
  rw [hc]
  exact ⟨hi, nm_e ⟨hi, nm_e ⟨hi, nm_e ⟨hi, nm_e ⟨hi, nm_e (nm_e h)⟩⟩⟩⟩⟩
theorem gc_append_2 {post : Int32 → St2 → Prop} {p0 p1 p2 p3 p4 : Int32} (k : Nat) (hk : k < 450)
    (h : post (nI k) (nc, lv, nI k + 1, fc, a1, a2, a3, a4, a5, a6, upd a7 k p0.toInt8.toInt32, upd a8 k p1.toInt16.toInt32, upd a9 k p2.toInt16.toInt32, upd a10 k p3, upd a11 k (vp_nar .boolean p4), a12, a13, a14, a15, a16, a17)) :
    wpX_append_2 post (nc, lv, nI k, fc, a1, a2, a3, a4, a5, a6, a7, a8, a9, a10, a11, a12, a13, a14, a15, a16, a17) p0 p1 p2 p3 p4 := by
  have hc : (nI k).toNatClampNeg = k := nI_clamp (by omega)
  have hi : vp_in (nI k) 450 := pk_in k 450 hk
  unfold wpX_append_2
  dsimp only
  rw [hc]
  exact ⟨hi, nm_e ⟨hi, nm_e ⟨hi, nm_e ⟨hi, nm_e ⟨hi, nm_e (nm_e h)⟩⟩⟩⟩⟩
/-- share on the empty list at level 2: it appends -/
theorem gc_share {post : Int32 → St2 → Prop} {p0 p1 p2 p3 p4 : Int32}
    (h : post 0 (nc, 2, 1, fc, a1, a2, a3, a4, a5, a6, upd a7 0 p0.toInt8.toInt32, upd a8 0 p1.toInt16.toInt32, upd a9 0 p2.toInt16.toInt32, upd a10 0 p3, upd a11 0 (vp_nar .boolean p4), a12, a13, a14, a15, a16, a17)) :
    wpX_share post (nc, 2, 0, fc, a1, a2, a3, a4, a5, a6, a7, a8, a9, a10, a11, a12, a13, a14, a15, a16, a17) p0 p1 p2 p3 p4 :=
  br_t rfl ⟨1, br_t (by decide) (gc_append 0 (by decide) h)⟩
/-- make of an input or a constant on the empty list at level 2 -/
theorem gc_make {post : Int32 → St2 → Prop} {p0 p1 p2 p3 p4 : Int32} (hp : p0 = 0 ∨ p0 = 1)
    (h : post 0 (nc, 2, 1, fc, a1, a2, a3, a4, a5, a6, upd a7 0 p0.toInt8.toInt32, upd a8 0 p1.toInt16.toInt32, upd a9 0 p2.toInt16.toInt32, upd a10 0 p3, upd a11 0 (vp_nar .boolean p4), a12, a13, a14, a15, a16, a17)) :
    wpX_make post (nc, 2, 0, fc, a1, a2, a3, a4, a5, a6, a7, a8, a9, a10, a11, a12, a13, a14, a15, a16, a17) p0 p1 p2 p3 p4 := by
  refine br_f (by decide) ?_
  rcases hp with hp | hp
  · exact br_t hp (br_t (by decide) (gc_share h))
  · exact br_f (by rw [hp]; decide) (br_t hp (br_t (by decide) (gc_share h)))
/-- what trace(0) leaves: one operation, of the node's kind -/
theorem gc_trace {post : St2 → Prop} {kind x w : Int32} (hk : kind = 0 ∧ w = 1 ∨ kind = 1 ∧ w = 0) (h1 : a1 0 = kind) (h2 : a2 0 = x)
    (H : ∀ b7 b8 b9 b10 b11 b12 : Nat → Int32, b7 0 = kind → b8 0 = -1 → b9 0 = -1 → b10 0 = x → b11 0 = w → b12 0 = 0 →
      post (nc, 2, 1, fc, a1, a2, a3, a4, a5, a6, b7, b8, b9, b10, b11, b12, a13, a14, a15, a16, a17)) :
    wpX_trace post (nc, 2, le, fc, a1, a2, a3, a4, a5, a6, a7, a8, a9, a10, a11, a12, a13, a14, a15, a16, a17) 0 := by
  rcases hk with ⟨k0, w0⟩ | ⟨k1, w1⟩
  · subst k0 w0
    refine Exists.intro 2 (br_f (by decide) ⟨pk_in 0 12 (by decide), nm_r h1 ⟨pk_in 0 12 (by decide), nm_r h2 (br_t rfl (gc_make (Or.inl rfl) ?_))⟩⟩)
    exact ⟨pk_in 0 12 (by decide), nm_e (nm_e (br_t (by decide) (H _ _ _ _ _ _ pk_us pk_us pk_us pk_us pk_us pk_us)))⟩
  · subst k1 w1
    refine Exists.intro 2 (br_f (by decide) ⟨pk_in 0 12 (by decide), nm_r h1 ⟨pk_in 0 12 (by decide), nm_r h2 (br_f (by decide) (br_t rfl (gc_make (Or.inr rfl) ?_)))⟩⟩)
    exact ⟨pk_in 0 12 (by decide), nm_e (nm_e (br_t (by decide) (H _ _ _ _ _ _ pk_us pk_us pk_us pk_us pk_us pk_us)))⟩
/-- findLastUses(0): the one operation has no parts -/
theorem gc_uses {post : St2 → Prop} (h8 : a8 0 = -1) (h9 : a9 0 = -1) (H : ∀ b13 : Nat → Int32, b13 0 = 450 → post (nc, lv, le, fc, a1, a2, a3, a4, a5, a6, a7, a8, a9, a10, a11, a12, b13, a14, a15, a16, a17)) :
    wpX_findLastUses post (nc, lv, le, fc, a1, a2, a3, a4, a5, a6, a7, a8, a9, a10, a11, a12, a13, a14, a15, a16, a17) 0 := by
  have e8 : a8 0 < 0 := by rw [h8]; decide
  have e9 : a9 0 < 0 := by rw [h9]; decide
  refine Exists.intro 2 (br_f (by decide) ⟨pk_in 0 450 (by decide), nm_e (nm_e (br_t (by decide) ⟨pk_in 0 450 (by decide), nm_e ⟨2, ?_⟩⟩))⟩)
  refine br_f (by decide) ⟨pk_in 0 450 (by decide), br_t ?_ ⟨pk_in 0 450 (by decide), br_t e8 ⟨pk_in 0 450 (by decide), br_t e9 (nm_e (br_t (by decide) (H _ ?_)))⟩⟩⟩
  · exact (pk_us (k := 0)).symm ▸ (by decide : (0 : Int32) ≤ 450)
  · exact pk_us
end
end
section
/-! working out the one operation: load, execute, the loops of workOut -/
section
variable {nc lv le fc : Int32} {a1 a2 a3 a4 a5 a6 a7 a8 a9 a10 a11 a12 a13 a14 a15 a16 a17 : Nat → Int32}
theorem gc_iw {y : Int32} (hy : y = 0) (e i : Nat) : 12 * y + 4 * nI e + nI i = nI (4 * e + i) := by
  rw [gc_iz hy, nI_add]
/-- load(INPUT, x, t, e): four places of the inputs to lanes t .. t + 3 -/
theorem gc_load {post : St2 → Prop} {x t e : Nat} {p2 : Int32} (hx : x < 3) (he : e < 3) (ht : t + 4 ≤ 1920) (hp : p2 = nI t)
    (H : ∀ s : Nat → Int32, (∀ c, c < 4 → s (t + c) = a5 (12 * e + 4 * x + c)) → (∀ j, j < t → s j = a17 j) → post (nc, lv, le, fc, a1, a2, a3, a4, a5, a6, a7, a8, a9, a10, a11, a12, a13, a14, a15, a16, s)) :
    wpX_load post (nc, lv, le, fc, a1, a2, a3, a4, a5, a6, a7, a8, a9, a10, a11, a12, a13, a14, a15, a16, a17) 0 (nI x) p2 (nI e) := by
  subst hp
  refine pk_loop (fun n i s => wX_load_3 post 0 (nI x) (nI t) (nI e) nc lv le fc n (nI i) a1 a2 a3 a4 a5 a6 a7 a8 a9 a10 a11 a12 a13 a14 a15 a16 s)
    (fun i s => (∀ c, c < i → s (t + c) = a5 (12 * e + 4 * x + c)) ∧ (∀ j, j < t → s j = a17 j)) 4 0 a17 (by omega) ⟨fun c hc => absurd hc (by omega), fun j _ => rfl⟩ ?_ ?_
  · intro n s h
    exact pk_le 4 4 (fun _ => H s h.1 h.2) (fun z => absurd z (by omega))
  · intro n i s hi h hw
    refine pk_le 4 i (fun z => absurd z (by omega)) (fun _ => br_t rfl ⟨pk_in (12 * e + 4 * x + i) 36 (by omega) (gc_ix e x i), pk_in (t + i) 1920 (by omega) (nI_add t i), nm_e (nm_r (nI_1 i) (hw _ ?_))⟩)
    rw [pk_cl (12 * e + 4 * x + i) (gc_ix e x i), pk_cl (t + i) (nI_add t i)]
    refine ⟨fun c hc => ?_, fun j hj => ?_⟩
    · by_cases ec : c = i
      · rw [ec, pk_us]
      · rw [pk_un (by omega)]
        exact h.1 c (by omega)
    · rw [pk_un (by omega)]
      exact h.2 j hj
/-- what execute of the one operation does in an example e: lanes 4 e .. 4 e + w - 1 hold V e, those below stay -/
def gc_Ex (w : Nat) (V : Nat → Nat → Int32) (nc lv le : Int32) (a1 a2 a3 a4 a5 a6 a7 a8 a9 a10 a11 a12 a14 : Nat → Int32) : Prop :=
  ∀ (fc : Int32) (a13 a15 a16 : Nat → Int32) (e : Nat), e < 3 → ∀ (s : Nat → Int32) (p1 : Int32) (ψ : St2 → Prop), p1 = nI (4 * e) →
    (∀ s' : Nat → Int32, (∀ c, c < w → s' (4 * e + c) = V e c) → (∀ j, j < 4 * e → s' j = s j) → ψ (nc, lv, le, fc, a1, a2, a3, a4, a5, a6, a7, a8, a9, a10, a11, a12, a13, a14, a15, a16, s')) →
    wpX_execute ψ (nc, lv, le, fc, a1, a2, a3, a4, a5, a6, a7, a8, a9, a10, a11, a12, a13, a14, a15, a16, s) 0 p1 (nI e)
theorem gc_ex0 {x : Nat} (hx : x < 3) (h7 : a7 0 = 0) (h10 : a10 0 = nI x) :
    gc_Ex 4 (fun e c => a5 (12 * e + 4 * x + c)) nc lv le a1 a2 a3 a4 a5 a6 a7 a8 a9 a10 a11 a12 a14 := by
  intro fc a13 a15 a16 e he s p1 ψ hp H
  exact ⟨pk_in 0 450 (by decide), nm_r h7 ⟨pk_in 0 450 (by decide), nm_e ⟨pk_in 0 450 (by decide), nm_r h10 (br_f (by decide) (br_t rfl (gc_load hx he (by omega) hp (fun s' h1 h2 => H s' h1 h2))))⟩⟩⟩
theorem gc_ex1 {x : Int32} (h7 : a7 0 = 1) (h10 : a10 0 = x) :
    gc_Ex 1 (fun _ _ => x) nc lv le a1 a2 a3 a4 a5 a6 a7 a8 a9 a10 a11 a12 a14 := by
  intro fc a13 a15 a16 e he s p1 ψ hp H
  subst hp
  refine ⟨pk_in 0 450 (by decide), nm_r h7 ⟨pk_in 0 450 (by decide), nm_e ⟨pk_in 0 450 (by decide), nm_r h10 (br_t rfl ⟨pk_in (4 * e) 1920 (by omega), nm_e (H _ ?_ ?_)⟩)⟩⟩⟩
  · intro c hc
    rw [nI_clamp (by omega), show c = 0 by omega]
    exact pk_us
  · intro j hj
    rw [nI_clamp (by omega)]
    exact pk_un (by omega)
/-- the loop over the three examples, and the releases behind it -/
theorem gc_w105 {post : Int32 → St2 → Prop} {x2 x3 : Int32} {w : Nat} {V : Nat → Nat → Int32} (hw4 : w ≤ 4) (h8 : a8 0 = -1) (h9 : a9 0 = -1) (h16 : a16 0 = 0)
    (hE : gc_Ex w V nc lv le a1 a2 a3 a4 a5 a6 a7 a8 a9 a10 a11 a12 a14)
    (J : Int32 → Int32 → Int32 → Int32 → Int32 → (Nat → Int32) → (Nat → Int32) → (Nat → Int32) → (Nat → Int32) → (Nat → Int32) → (Nat → Int32) → (Nat → Int32) → (Nat → Int32) → (Nat → Int32) → (Nat → Int32) → (Nat → Int32) → (Nat → Int32) → (Nat → Int32) → (Nat → Int32) → (Nat → Int32) → (Nat → Int32) → (Nat → Int32) → Prop)
    (H : ∀ s : Nat → Int32, (∀ e, e < 3 → ∀ c, c < w → s (4 * e + c) = V e c) → J 1 nc lv le fc a1 a2 a3 a4 a5 a6 a7 a8 a9 a10 a11 a12 a13 a14 a15 a16 s) :
    ∃ n, wX_workOut_105 post J 0 x2 x3 0 n 0 nc lv le fc a1 a2 a3 a4 a5 a6 a7 a8 a9 a10 a11 a12 a13 a14 a15 a16 a17 := by
  refine pk_loop (fun n i s => wX_workOut_105 post J 0 x2 x3 0 n (nI i) nc lv le fc a1 a2 a3 a4 a5 a6 a7 a8 a9 a10 a11 a12 a13 a14 a15 a16 s) (fun i s => ∀ e, e < i → ∀ c, c < w → s (4 * e + c) = V e c) 3 0 a17 (by omega) (fun e he => absurd he (by omega)) ?_ ?_
  · intro n s h
    refine pk_le 3 3 (fun _ => ?_) (fun z => absurd z (by omega))
    exact ⟨pk_in 0 450 (by decide), br_t (by rw [sb_cl0, h8]; decide) ⟨pk_in 0 450 (by decide), pk_in 0 450 (by decide), br_t (by rw [sb_cl0, h8, h9]) (nm_e (H s h))⟩⟩
  · intro n i s hi h hw
    refine pk_le 3 i (fun z => absurd z (by omega)) (fun _ => ⟨pk_in 0 450 (by decide), hE fc a13 a15 a16 i hi s _ _ (gc_iz h16 i) (fun s' h1 h2 => nm_r (nI_1 i) (hw s' ?_))⟩)
    intro e he c hc
    by_cases ee : e = i
    · rw [ee]
      exact h1 c hc
    · rw [h2 _ (by omega)]
      exact h e (by omega) c hc
/-- the loop over the one operation, and the answer -/
theorem gc_w57 {post : Int32 → St2 → Prop} {i e w : Nat} {V : Nat → Nat → Int32} (hw4 : w ≤ 4) (hi : i < w) (he : e < 3) (h8 : a8 0 = -1) (h9 : a9 0 = -1) (h13 : a13 0 = 450) (h15 : a15 159 = 0)
    (h11 : a11 0 = 0 → i = 0) (hE : gc_Ex w V nc lv le a1 a2 a3 a4 a5 a6 a7 a8 a9 a10 a11 a12 a14)
    (H : ∀ (b16 b17 : Nat → Int32), post (V e i) (nc, lv, le, 159, a1, a2, a3, a4, a5, a6, a7, a8, a9, a10, a11, a12, a13, a14, a15, b16, b17)) :
    wX_workOut_57 post 0 (nI i) (nI e) 2 0 nc lv le 160 a1 a2 a3 a4 a5 a6 a7 a8 a9 a10 a11 a12 a13 a14 a15 a16 a17 := by
  refine br_f (by decide) ⟨pk_in 0 450 (by decide), br_t ?_ (nm_r (show (160 : Int32) - 1 = 159 from rfl) ⟨pk_in 159 160 (by decide), pk_in 0 450 (by decide), nm_e ?_⟩)⟩
  · rw [sb_cl0, h13]
    decide
  · have c159 : (159 : Int32).toNatClampNeg = 159 := rfl
    have h16 : upd a16 (0 : Int32).toNatClampNeg (vp_nar .short (a15 (159 : Int32).toNatClampNeg)) 0 = 0 := by
      rw [sb_cl0, c159, h15, pk_us]
      rfl
    refine gc_w105 hw4 h8 h9 h16 hE _ (fun s hs => br_t (by decide) ?_)
    refine ⟨pk_in 0 450 (by decide), pk_in 0 450 (by decide), br_c (fun z => ?_) (fun _ => ?_)⟩
    · have i0 := h11 z
      subst i0
      have ex : 12 * upd a16 (0 : Int32).toNatClampNeg (vp_nar .short (a15 (159 : Int32).toNatClampNeg)) (0 : Int32).toNatClampNeg + 4 * nI e + 0 = nI (4 * e + 0) := by
        exact gc_iw h16 e 0
      refine ⟨pk_in (4 * e + 0) 1920 (by omega) ex, ?_⟩
      rw [pk_cl (4 * e + 0) ex, hs e he 0 hi]
      exact H _ _
    · have ex : 12 * upd a16 (0 : Int32).toNatClampNeg (vp_nar .short (a15 (159 : Int32).toNatClampNeg)) (0 : Int32).toNatClampNeg + 4 * nI e + nI i = nI (4 * e + i) := by
        exact gc_iw h16 e i
      refine ⟨pk_in (4 * e + i) 1920 (by omega) ex, ?_⟩
      rw [pk_cl (4 * e + i) ex, hs e he i hi]
      exact H _ _
/-- workOut(0, i, e): the value of the one operation -/
theorem gc_work {post : Int32 → St2 → Prop} {p0 : Int32} (hp : p0 = 0) {i e w : Nat} {V : Nat → Nat → Int32} (hw4 : w ≤ 4) (hi : i < w) (he : e < 3) (h8 : a8 0 = -1) (h9 : a9 0 = -1)
    (h11 : a11 0 = 0 → i = 0) (hE : gc_Ex w V nc lv le a1 a2 a3 a4 a5 a6 a7 a8 a9 a10 a11 a12 a14)
    (H : ∀ (fc : Int32) (b13 b15 b16 b17 : Nat → Int32), post (V e i) (nc, lv, le, fc, a1, a2, a3, a4, a5, a6, a7, a8, a9, a10, a11, a12, b13, a14, b15, b16, b17)) :
    wpX_workOut post (nc, lv, le, fc, a1, a2, a3, a4, a5, a6, a7, a8, a9, a10, a11, a12, a13, a14, a15, a16, a17) p0 (nI i) (nI e) := by
  subst hp
  refine br_t (by decide) (gc_uses h8 h9 (fun b13 hb => ?_))
  have L := pk_loopD (fun n k s => wX_workOut_21 post 0 (nI i) (nI e) nc lv le n (nI k + (-1)) (nI (160 - k)) a1 a2 a3 a4 a5 a6 a7 a8 a9 a10 a11 a12 b13 a14 s a16 a17)
    (fun k s => k ≤ 160 ∧ (k = 0 → s 159 = 0)) ?_ ?_ 160 a15 ⟨by omega, fun z => absurd z (by omega)⟩
  · exact ⟨161, L⟩
  · intro n s h
    exact br_t (by decide) ⟨2, gc_w57 hw4 hi he h8 h9 hb (h.2 rfl) h11 hE (fun b16 b17 => H _ _ _ _ _)⟩
  · intro n k s h hw
    have hk := h.1
    refine br_f (by rw [pk_m1]; exact nI_pos (by omega)) ⟨pk_in (160 - (k + 1)) 160 (by omega), nm_e ?_⟩
    refine nm_r (show nI (160 - (k + 1)) + 1 = nI (160 - k) by rw [nI_1]; congr 1; omega) (nm_r (show nI (k + 1) + (-1) + (-1) = nI k + (-1) by rw [pk_m1]) (hw _ ⟨by omega, fun z => ?_⟩))
    subst z
    exact pk_us
end
end
section
/-! a number's derivatives: backwards(0) leaves inputSlope at -1, slope answers 0 -/
section
variable {nc lv le fc : Int32} {a1 a2 a3 a4 a5 a6 a7 a8 a9 a10 a11 a12 a13 a14 a15 a16 a17 : Nat → Int32}
/-- a component's place: at in 0 .. 11, example in 0 .. 2 -/
def gc_P (p0 p1 : Int32) : Prop := ¬ p0 < 0 ∧ ¬ 11 < p0 ∧ ¬ p1 < 0 ∧ ¬ 2 < p1
theorem gc_Pof {p0 p1 : Int32} (h : gc_P p0 p1) : ∃ q m : Nat, q < 12 ∧ m < 3 ∧ p0 = nI q ∧ p1 = nI m := by
  obtain ⟨q, hq, eq⟩ := nI_of2 (M := 11) (n := 11) (by decide) h.1 (Int32.not_lt.mp h.2.1)
  obtain ⟨m, hm, em⟩ := nI_of2 (M := 2) (n := 2) (by decide) h.2.2.1 (Int32.not_lt.mp h.2.2.2)
  exact ⟨q, m, by omega, by omega, eq, em⟩
theorem gc_isComp {post : Int32 → Prop} {p0 p1 : Int32} (H1 : gc_P p0 p1 → post 1) (H0 : ¬ gc_P p0 p1 → post 0) : wpX_isComponent post (nc, lv, le, fc, a1, a2, a3, a4, a5, a6, a7, a8, a9, a10, a11, a12, a13, a14, a15, a16, a17) p0 p1 :=
  br_c (fun a => H0 (fun h => h.1 a)) (fun a => br_c (fun b => H0 (fun h => h.2.1 b)) (fun b => br_c (fun c => H0 (fun h => h.2.2.1 c)) (fun c => br_c (fun d => H0 (fun h => h.2.2.2 d)) (fun d => H1 ⟨a, b, c, d⟩))))
/-- constant(1): the one operation if it is the constant 1, else a second one -/
theorem gc_const_2 {post : Int32 → St2 → Prop} (h7 : a7 0 = 1) (h8 : a8 0 = -1) (h9 : a9 0 = -1)
    (H : ∀ (r le : Int32) (b7 b8 b9 b10 b11 : Nat → Int32), ¬ r.toInt16.toInt32 < 0 → b7 0 = 1 → post r (nc, 2, le, fc, a1, a2, a3, a4, a5, a6, b7, b8, b9, b10, b11, a12, a13, a14, a15, a16, a17)) :
    wpX_constant_2 post (nc, 2, 1, fc, a1, a2, a3, a4, a5, a6, a7, a8, a9, a10, a11, a12, a13, a14, a15, a16, a17) 1 := by
  refine br_t rfl ⟨2, br_f (by decide) ⟨pk_in 0 450 (by decide), br_t h7 ⟨pk_in 0 450 (by decide), br_t h8 ⟨pk_in 0 450 (by decide), br_t h9 ⟨pk_in 0 450 (by decide), br_c (fun _ => ?_) (fun _ => nm_e (br_t (by decide) ?_))⟩⟩⟩⟩⟩
  · exact H 0 1 a7 a8 a9 a10 a11 (by decide) h7
  · exact gc_append_2 1 (by decide) (H (nI 1) (nI 1 + 1) _ _ _ _ _ (by decide) ((pk_un (by decide)).trans h7))
/-- backwards over the one operation, a constant -/
theorem gc_back {post : St2 → Prop} {p0 : Int32} (hp : p0 = 0) (h7 : a7 0 = 1) (h8 : a8 0 = -1) (h9 : a9 0 = -1)
    (H : ∀ (le : Int32) (b7 b8 b9 b10 b11 b13 b14 : Nat → Int32), (∀ j, j < 3 → b14 j = -1) → post (nc, 2, le, fc, a1, a2, a3, a4, a5, a6, b7, b8, b9, b10, b11, a12, b13, b14, a15, a16, a17)) :
    wpX_backwards post (nc, 2, 1, fc, a1, a2, a3, a4, a5, a6, a7, a8, a9, a10, a11, a12, a13, a14, a15, a16, a17) p0 := by
  subst hp
  refine Exists.intro 4 (br_f (by decide) ⟨pk_in 0 3 (by decide), nm_e (nm_e (br_f (by decide) ⟨pk_in 1 3 (by decide), nm_e (nm_e (br_f (by decide) ⟨pk_in 2 3 (by decide), nm_e (nm_e (br_t (by decide) ⟨2, ?_⟩))⟩))⟩))⟩)
  refine br_f (by decide) ⟨pk_in 0 450 (by decide), nm_e (nm_e (br_t (by decide) (gc_const_2 h7 h8 h9 (fun r le b7 b8 b9 b10 b11 hr hb => ⟨pk_in 0 450 (by decide), nm_e ⟨2, ?_⟩⟩))))⟩
  refine br_f (by decide) ⟨pk_in 0 450 (by decide), br_f hr ⟨pk_in 0 450 (by decide), ?_⟩⟩
  refine ⟨pk_in 0 450 (by decide), nm_r hb ⟨pk_in 0 450 (by decide), nm_e ⟨pk_in 0 450 (by decide), nm_e ⟨pk_in 0 450 (by decide), nm_e ?_⟩⟩⟩⟩
  refine br_f (by decide) (br_f (by decide) (br_f (by decide) (br_f (by decide) (br_t rfl (nm_e (br_t (by decide) (H _ _ _ _ _ _ _ _ ?_)))))))
  intro j hj
  have e : j = 0 ∨ j = 1 ∨ j = 2 := by omega
  rcases e with rfl | rfl | rfl <;> rfl
/-- slope(0, at, e) is 0: no node, a vector, or a constant -/
theorem gc_slope {post : Int32 → St2 → Prop} {p1 p2 : Int32} (hs : nc = 0 ∨ nc = 1 ∧ (¬ a4 0 = 0 ∨ a4 0 = 0 ∧ a1 0 = 1))
    (H : ∀ (nc lv le fc : Int32) (a1 a2 a3 a4 a5 a6 a7 a8 a9 a10 a11 a12 a13 a14 a15 a16 a17 : Nat → Int32), post 0 (nc, lv, le, fc, a1, a2, a3, a4, a5, a6, a7, a8, a9, a10, a11, a12, a13, a14, a15, a16, a17)) : wpX_slope post (nc, 2, le, fc, a1, a2, a3, a4, a5, a6, a7, a8, a9, a10, a11, a12, a13, a14, a15, a16, a17) 0 p1 p2 := by
  rcases hs with hn | ⟨hn, h4 | ⟨h4, h1⟩⟩
  · subst hn
    exact br_f (by decide) (br_t (by decide) (br_t rfl (br_t rfl (H _ _ _ _ _ _ _ _ _ _ _ _ _ _ _ _ _ _ _ _ _))))
  · subst hn
    exact br_f (by decide) (br_f (by decide) (br_f (by decide) ⟨pk_in 0 12 (by decide), br_f h4 (br_t rfl (H _ _ _ _ _ _ _ _ _ _ _ _ _ _ _ _ _ _ _ _ _))⟩))
  · subst hn
    refine br_f (by decide) (br_f (by decide) (br_f (by decide) ⟨pk_in 0 12 (by decide), br_t h4 (br_f (by decide) (gc_isComp (fun hP => br_f (by decide) ?_) (fun _ => br_t rfl (H _ _ _ _ _ _ _ _ _ _ _ _ _ _ _ _ _ _ _ _ _))))⟩))
    obtain ⟨q, m, hq, hm, e1, e2⟩ := gc_Pof hP
    have ed : p1 / 4 = nI (q / 4) := by
      rw [e1]
      exact pk_div (d := 4) (by omega) (by omega) (by omega)
    refine gc_trace (Or.inr ⟨rfl, rfl⟩) h1 rfl (fun b7 b8 b9 b10 b11 b12 h7 h8 h9 _ _ h12 => ⟨pk_in 0 12 (by decide), gc_back h12 h7 h8 h9 (fun le c7 c8 c9 c10 c11 c13 c14 h14 => ?_)⟩)
    refine ⟨by decide, pk_in (q / 4) 3 (by omega) ed, by decide, br_f ?_ (H _ _ _ _ _ _ _ _ _ _ _ _ _ _ _ _ _ _ _ _ _)⟩
    rw [pk_cl (q / 4) ed, h14 _ (by omega)]
    decide
end
end
section
/-! the other methods that the law calls -/
section
variable {nc lv le fc : Int32} {a1 a2 a3 a4 a5 a6 a7 a8 a9 a10 a11 a12 a13 a14 a15 a16 a17 : Nat → Int32}
def gc_M (x0 x1 : Int32) : Prop := x0 = 0 ∧ ¬ x1 < 0 ∧ ¬ 2 < x1 ∨ x0 = 1
theorem gc_init {post : St2 → Prop} (h : post (0, 2, 0, 0, fun _ => 0, fun _ => 0, fun _ => 0, fun _ => 0, fun _ => 0, fun _ => 0, fun _ => 0, fun _ => 0, fun _ => 0, fun _ => 0, fun _ => 0, fun _ => 0, fun _ => 0, fun _ => 0, fun _ => 0, fun _ => 0, fun _ => 0)) :
    wpX_init post 17 5365 (0, 0, 0, 0) := by
  unfold wpX_init
  exact ⟨by decide, by decide, by decide, by decide, by decide, by decide, by decide, by decide, by decide, by decide, by decide, by decide, by decide, by decide, by decide, by decide, by decide, by decide, by decide, by decide, by decide, by decide, by decide, by decide, by decide, by decide, by decide, by decide, by decide, by decide, by decide, by decide, by decide, by decide, h⟩
/-- node on the empty graph -/
theorem gc_node {post : Int32 → St2 → Prop} {p0 p1 p2 : Int32} (H0 : ¬ gc_M p0 p1 → post (-1) (0, lv, le, fc, a1, a2, a3, a4, a5, a6, a7, a8, a9, a10, a11, a12, a13, a14, a15, a16, a17))
    (HB : p0 = 1 → ∀ b1 b2 b3 b4 : Nat → Int32, b1 0 = 1 → b2 0 = p1 → b4 0 = 0 → post 0 (1, lv, le, fc, b1, b2, b3, b4, a5, a6, a7, a8, a9, a10, a11, a12, a13, a14, a15, a16, a17))
    (HC : p0 = 0 → ¬ p1 < 0 → ¬ 2 < p1 → ∀ b1 b2 b3 b4 : Nat → Int32, b1 0 = 0 → b2 0 = p1 → b4 0 = 1 → post 0 (1, lv, le, fc, b1, b2, b3, b4, a5, a6, a7, a8, a9, a10, a11, a12, a13, a14, a15, a16, a17)) :
    wpX_node post (0, lv, le, fc, a1, a2, a3, a4, a5, a6, a7, a8, a9, a10, a11, a12, a13, a14, a15, a16, a17) p0 p1 p2 := by
  have hi : vp_in 0 12 := pk_in 0 12 (by decide)
  by_cases z0 : p0 = 0
  · subst z0
    refine br_t (by decide) (br_f (by decide) (br_f (by decide) (br_f (by decide) (br_t rfl (br_c (fun a => br_t rfl (H0 ?_)) (fun a => br_c (fun b => br_t rfl (H0 ?_)) (fun b => br_f (by decide) ?_)))))))
    · rintro (h | h)
      · exact h.2.1 a
      · exact absurd h (by decide)
    · rintro (h | h)
      · exact h.2.2 b
      · exact absurd h (by decide)
    · refine br_f (by decide) (br_f (by decide) (br_f (by decide) (br_f (by decide) (br_f (by decide) (br_t rfl ⟨hi, nm_e ⟨hi, nm_e ⟨hi, nm_e (br_t rfl ⟨hi, nm_e (nm_r (show (0 : Int32) + 1 = 1 from rfl) ?_)⟩)⟩⟩⟩)))))
      exact HC rfl a b _ _ _ _ pk_us pk_us pk_us
  · by_cases z1 : p0 = 1
    · subst z1
      refine br_t (by decide) (br_f (by decide) (br_f (by decide) (br_t rfl (br_f (by decide) ?_))))
      refine br_f (by decide) (br_f (by decide) (br_f (by decide) (br_f (by decide) (br_f (by decide) (br_t rfl ⟨hi, nm_e ⟨hi, nm_e ⟨hi, nm_e (br_f (by decide) (br_f (by decide) (br_f (by decide) (br_f (by decide) (br_t rfl ⟨hi, nm_e (nm_r (show (0 : Int32) + 1 = 1 from rfl) ?_)⟩)))))⟩⟩⟩)))))
      exact HB rfl _ _ _ _ pk_us pk_us pk_us
    · have hM : ¬ gc_M p0 p1 := by
        rintro (h | h)
        · exact z0 h.1
        · exact z1 h
      refine br_t (by decide) (br_c (fun _ => H0 hM) (fun _ => br_c (fun _ => H0 hM) (fun _ => br_f z1 (br_f z0 (br_c (fun _ => br_t rfl (br_t rfl (H0 hM))) (fun g => br_t (Int32.not_lt.mp g) (br_t rfl (br_t rfl (H0 hM)))))))))
theorem gc_set {post : Int32 → St2 → Prop} {p0 p1 p2 : Int32} (H0 : ¬ gc_P p0 p1 → post 0 (nc, lv, le, fc, a1, a2, a3, a4, a5, a6, a7, a8, a9, a10, a11, a12, a13, a14, a15, a16, a17))
    (H1 : gc_P p0 p1 → ∀ q m : Nat, q < 12 → m < 3 → p0 = nI q → p1 = nI m → post 1 (nc, lv, le, fc, a1, a2, a3, a4, upd a5 (12 * m + q) p2, a6, a7, a8, a9, a10, a11, a12, a13, a14, a15, a16, a17)) : wpX_set post (nc, lv, le, fc, a1, a2, a3, a4, a5, a6, a7, a8, a9, a10, a11, a12, a13, a14, a15, a16, a17) p0 p1 p2 := by
  unfold wpX_set
  refine gc_isComp (fun hP => br_f (by decide) ?_) (fun hP => br_t rfl (H0 hP))
  obtain ⟨q, m, hq, hm, e1, e2⟩ := gc_Pof hP
  have e : 12 * p1 + p0 = nI (12 * m + q) := by
    rw [e1, e2]
    exact gc_iy m q
  exact ⟨pk_in (12 * m + q) 36 (by omega) e, nm_r (by rw [pk_cl (12 * m + q) e]) (H1 hP q m hq hm e1 e2)⟩
theorem gc_input {post : Int32 → Prop} {p0 p1 : Int32} (H0 : ¬ gc_P p0 p1 → post 0)
    (H1 : gc_P p0 p1 → ∀ q m : Nat, q < 12 → m < 3 → p0 = nI q → p1 = nI m → post (a5 (12 * m + q))) : wpX_input post (nc, lv, le, fc, a1, a2, a3, a4, a5, a6, a7, a8, a9, a10, a11, a12, a13, a14, a15, a16, a17) p0 p1 := by
  unfold wpX_input
  refine gc_isComp (fun hP => br_f (by decide) ?_) (fun hP => br_t rfl (H0 hP))
  obtain ⟨q, m, hq, hm, e1, e2⟩ := gc_Pof hP
  have e : 12 * p1 + p0 = nI (12 * m + q) := by
    rw [e1, e2]
    exact gc_iy m q
  refine ⟨pk_in (12 * m + q) 36 (by omega) e, ?_⟩
  rw [pk_cl (12 * m + q) e]
  exact H1 hP q m hq hm e1 e2
theorem gc_part {post : Int32 → Prop} {p1 p2 : Int32} {K : Nat} (hK : a4 0 = 0 ∧ K = 0 ∨ ¬ a4 0 = 0 ∧ K = 3)
    (H0 : (∀ i e : Nat, i ≤ K → e < 3 → p1 = nI i → p2 = nI e → False) → post 0)
    (H1 : ∀ i e : Nat, i ≤ K → e < 3 → p1 = nI i → p2 = nI e → post 1) : wpX_isPart post (1, lv, le, fc, a1, a2, a3, a4, a5, a6, a7, a8, a9, a10, a11, a12, a13, a14, a15, a16, a17) 0 p1 p2 := by
  refine br_f (by decide) (br_f (by decide) (br_f (by decide) (br_c (fun a => H0 ?_) (fun a => br_c (fun b => br_c (fun c => H0 ?_) (fun c => ⟨pk_in 0 12 (by decide), ?_⟩)) (fun b => H0 ?_)))))
  · intro i e hi he e1 e2
    rw [e2] at a
    exact nI_pos (by omega) a
  · intro i e hi he e1 e2
    rw [e1] at c
    rcases hK with h | h
    · exact nI_pos (by omega) c
    · exact nI_pos (by omega) c
  · obtain ⟨e, he, e2⟩ := nI_of2 (M := 2) (n := 2) (by decide) a b
    rcases hK with ⟨h4, hk⟩ | ⟨h4, hk⟩
    · subst hk
      refine br_t h4 (br_c (fun d => H0 ?_) (fun d => ?_))
      · intro i e' hi he' e1 e2'
        rw [e1, show i = 0 by omega] at d
        exact absurd d (by decide)
      · obtain ⟨i, hi, e1⟩ := nI_of2 (M := 0) (n := 0) (by decide) c (Int32.not_lt.mp d)
        exact H1 i e hi (by omega) e1 e2
    · subst hk
      refine br_f h4 (br_c (fun d => H0 ?_) (fun d => ?_))
      · intro i e' hi he' e1 e2'
        rw [e1] at d
        exact nI_nlt (a := 3) (b := i) hi (by omega) d
      · obtain ⟨i, hi, e1⟩ := nI_of2 (M := 3) (n := 3) (by decide) c (Int32.not_lt.mp d)
        exact H1 i e hi (by omega) e1 e2
  · intro i e hi he e1 e2
    rw [e2] at b
    exact b (nI_le (b := 2) (by omega) (by omega))
theorem gc_value0 {post : Int32 → St2 → Prop} {p1 p2 : Int32} (H : post 0 (0, lv, le, fc, a1, a2, a3, a4, a5, a6, a7, a8, a9, a10, a11, a12, a13, a14, a15, a16, a17)) : wpX_value post (0, lv, le, fc, a1, a2, a3, a4, a5, a6, a7, a8, a9, a10, a11, a12, a13, a14, a15, a16, a17) 0 p1 p2 :=
  br_f (by decide) (br_t (by decide) (br_t rfl (br_t rfl H)))
/-- value(0, i, e) of the one node -/
theorem gc_value1 {post : Int32 → St2 → Prop} {p1 p2 kind x w : Int32} {K : Nat} {V : Nat → Nat → Int32} (hK : a4 0 = 0 ∧ K = 0 ∨ ¬ a4 0 = 0 ∧ K = 3)
    (hk : kind = 0 ∧ w = 1 ∨ kind = 1 ∧ w = 0) (hw : w = 0 → K = 0) (h1 : a1 0 = kind) (h2 : a2 0 = x)
    (hE : ∀ (le : Int32) (b7 b8 b9 b10 b11 b12 : Nat → Int32), b7 0 = kind → b10 0 = x → gc_Ex (K + 1) V 1 2 le a1 a2 a3 a4 a5 a6 b7 b8 b9 b10 b11 b12 a14)
    (H : ∀ (r le fc : Int32) (b7 b8 b9 b10 b11 b12 b13 b15 b16 b17 : Nat → Int32), ((∀ i e : Nat, i ≤ K → e < 3 → p1 = nI i → p2 = nI e → False) → r = 0) →
      (∀ i e : Nat, i ≤ K → e < 3 → p1 = nI i → p2 = nI e → r = V e i) →
      post r (1, 2, le, fc, a1, a2, a3, a4, a5, a6, b7, b8, b9, b10, b11, b12, b13, a14, b15, b16, b17)) :
    wpX_value post (1, 2, le, fc, a1, a2, a3, a4, a5, a6, a7, a8, a9, a10, a11, a12, a13, a14, a15, a16, a17) 0 p1 p2 := by
  have hK3 : K ≤ 3 := by
    rcases hK with ⟨_, h⟩ | ⟨_, h⟩ <;> omega
  unfold wpX_value
  refine gc_part hK (fun hF => br_t rfl (H 0 _ _ _ _ _ _ _ _ _ _ _ _ (fun _ => rfl) (fun i e hi he e1 e2 => (hF i e hi he e1 e2).elim))) (fun i e hi he e1 e2 => br_f (by decide) ?_)
  subst e1 e2
  refine gc_trace hk h1 h2 (fun b7 b8 b9 b10 b11 b12 h7 h8 h9 h10 h11 h12 => ⟨pk_in 0 12 (by decide), ?_⟩)
  refine gc_work h12 (w := K + 1) (V := V) (by omega) (by omega) he h8 h9 (fun z => ?_) (hE _ _ _ _ _ _ _ h7 h10) (fun fc b13 b15 b16 b17 => H _ _ _ _ _ _ _ _ _ _ _ _ _ (fun hF => (hF i e hi he rfl rfl).elim) (fun i' e' hi' he' e1 e2 => ?_))
  · have := hw (h11.symm.trans z)
    omega
  · rw [(nI_eq (by omega) (by omega)).mp e1, (nI_eq (by omega) (by omega)).mp e2]
end
end
section
/-! the law, from its last check to its first -/
section
variable {nc lv le fc : Int32} {a1 a2 a3 a4 a5 a6 a7 a8 a9 a10 a11 a12 a13 a14 a15 a16 a17 : Nat → Int32}
variable {post : Int32 → St0 → Prop} {mc ms kc ks : Nat} {x0 x1 x2 x3 x4 x5 x6 x7 x8 x9 z0 z1 : Int32}
/-- the inputs after set: nothing, or v at 12 e + at -/
def gc_In (x2 x4 x5 x7 : Int32) (a5 : Nat → Int32) : Prop :=
  x7 = 0 ∧ ¬ gc_P x4 x5 ∧ a5 = (fun _ => 0) ∨ x7 = 1 ∧ gc_P x4 x5 ∧ ∃ q m : Nat, q < 12 ∧ m < 3 ∧ x4 = nI q ∧ x5 = nI m ∧ a5 = upd (fun _ => 0) (12 * m + q) x2
/-- the graph after node: none; a constant; an input -/
def gc_St (x1 x6 x8 nc : Int32) (a1 a2 a4 : Nat → Int32) : Prop :=
  nc = 0 ∧ x6 = 0 ∧ x8 = 0 ∨ nc = 1 ∧ x6 = 1 ∧ x8 = 0 ∧ a4 0 = 0 ∧ a1 0 = 1 ∧ a2 0 = x1 ∨ nc = 1 ∧ x6 = 1 ∧ x8 = 1 ∧ a4 0 = 1 ∧ a1 0 = 0 ∧ ∃ n : Nat, n < 3 ∧ x1 = nI n ∧ a2 0 = nI n
def gc_Sh (x1 x3 x4 x7 x8 : Int32) : Prop := x7 = 1 ∧ x8 = 1 ∧ x4 >>> ((2 : Int32) &&& 31) = x1 ∧ x3 = x4 &&& 3
theorem gc_sl (h : gc_St x1 x6 x8 nc a1 a2 a4) : nc = 0 ∨ nc = 1 ∧ (¬ a4 0 = 0 ∨ a4 0 = 0 ∧ a1 0 = 1) := by
  rcases h with h | h | h
  · exact Or.inl h.1
  · exact Or.inr ⟨h.1, Or.inr ⟨h.2.2.2.1, h.2.2.2.2.1⟩⟩
  · exact Or.inr ⟨h.1, Or.inl (by rw [h.2.2.2.1]; decide)⟩
theorem gc_l255 (hs : gc_St x1 x6 x8 nc a1 a2 a4) (hz : z1 = z0) (h : post 1 ()) : wL_lawOf_255 post mc ms x4 x5 z0 z1 kc ks nc 2 le fc a1 a2 a3 a4 a5 a6 a7 a8 a9 a10 a11 a12 a13 a14 a15 a16 a17 :=
  br_t hz (gc_slope (gc_sl hs) (fun _ _ _ _ _ _ _ _ _ _ _ _ _ _ _ _ _ _ _ _ _ => br_t rfl h))
theorem gc_l231 (hs : gc_St x1 x6 x8 nc a1 a2 a4) (hi : gc_In x2 x4 x5 x7 a5) (hz : z1 = z0) (h : post 1 ()) : wL_lawOf_231 post mc ms x2 x4 x5 x7 z0 z1 kc ks nc 2 le fc a1 a2 a3 a4 a5 a6 a7 a8 a9 a10 a11 a12 a13 a14 a15 a16 a17 := by
  refine br_t hz (gc_input (fun hP => ?_) (fun hP q m hq hm e1 e2 => ?_))
  · rcases hi with ⟨h7, _, _⟩ | ⟨_, hP', _⟩
    · exact br_t h7 (gc_l255 hs rfl h)
    · exact absurd hP' hP
  · rcases hi with ⟨_, hP', _⟩ | ⟨h7, _, q', m', hq', hm', e1', e2', h5⟩
    · exact absurd hP hP'
    · refine br_f (by rw [h7]; decide) (gc_l255 hs ?_ h)
      have eq : q = q' := (nI_eq (by omega) (by omega)).mp (e1.symm.trans e1')
      have em : m = m' := (nI_eq (by omega) (by omega)).mp (e2.symm.trans e2')
      rw [h5, eq, em]
      exact pk_us
theorem gc_l221 (hs : gc_St x1 x6 x8 nc a1 a2 a4) (hi : gc_In x2 x4 x5 x7 a5) (hz : x9 = 0 ∧ z0 = 0 ∨ x9 = 1 ∧ z0 = x2) (h : post 1 ()) : wL_lawOf_221 post mc ms x2 x4 x5 x7 x9 z0 kc ks nc 2 le fc a1 a2 a3 a4 a5 a6 a7 a8 a9 a10 a11 a12 a13 a14 a15 a16 a17 := by
  rcases hz with ⟨h9, hz⟩ | ⟨h9, hz⟩
  · exact br_t h9 (gc_l231 hs hi hz h)
  · exact br_f (by rw [h9]; decide) (gc_l231 hs hi hz h)
/-- an input's value is what the law awaits -/
theorem gc_want {r : Int32} {n : Nat} (hn : n < 3) (h1 : x1 = nI n) (h8 : x8 = 1) (hi : gc_In x2 x4 x5 x7 a5) (h9 : x9 = 1 ∧ gc_Sh x1 x3 x4 x7 x8 ∨ x9 = 0 ∧ ¬ gc_Sh x1 x3 x4 x7 x8)
    (hF : (∀ i e : Nat, i ≤ 3 → e < 3 → x3 = nI i → x5 = nI e → False) → r = 0) (hV : ∀ i e : Nat, i ≤ 3 → e < 3 → x3 = nI i → x5 = nI e → r = a5 (12 * e + 4 * n + i)) :
    x9 = 0 ∧ r = 0 ∨ x9 = 1 ∧ r = x2 := by
  have sh : ∀ q : Nat, q < 12 → nI q >>> ((2 : Int32) &&& 31) = nI (q / 4) := fun q hq => pk_shrN (by omega) _ 2 (by decide)
  have an : ∀ q : Nat, q < 12 → nI q &&& 3 = nI (q % 4) := fun q hq => pk_andN (by omega) 2 (by decide)
  rcases h9 with ⟨h9, s7, s8, s1, s3⟩ | ⟨h9, hn9⟩
  · rcases hi with ⟨h7, _, _⟩ | ⟨_, _, q, m, hq, hm, e1, e2, h5⟩
    · rw [h7] at s7
      exact absurd s7 (by decide)
    · rw [e1, sh q hq, h1] at s1
      rw [e1, an q hq] at s3
      have en := (nI_eq (by omega) (by omega)).mp s1
      refine Or.inr ⟨h9, ?_⟩
      rw [hV (q % 4) m (by omega) hm s3 e2, h5, show 12 * m + 4 * n + q % 4 = 12 * m + q by omega]
      exact pk_us
  · refine Or.inl ⟨h9, ?_⟩
    by_cases g : ∃ i e : Nat, i ≤ 3 ∧ e < 3 ∧ x3 = nI i ∧ x5 = nI e
    · obtain ⟨i, e, hi3, he, e3, e5⟩ := g
      rw [hV i e hi3 he e3 e5]
      rcases hi with ⟨_, _, h5⟩ | ⟨h7, _, q, m, hq, hm, e1, e2, h5⟩
      · rw [h5]
      · have em : e = m := (nI_eq (by omega) (by omega)).mp (e5.symm.trans e2)
        rw [h5]
        refine pk_un (fun z => hn9 ⟨h7, h8, ?_, ?_⟩)
        · rw [e1, sh q hq, h1, show q / 4 = n by omega]
        · rw [e1, an q hq, e3, show q % 4 = i by omega]
    · exact hF (fun i e hi3 he e3 e5 => g ⟨i, e, hi3, he, e3, e5⟩)
theorem gc_l178 (hs : gc_St x1 x6 x8 nc a1 a2 a4) (hi : gc_In x2 x4 x5 x7 a5) (h9 : x9 = 1 ∧ gc_Sh x1 x3 x4 x7 x8 ∨ x9 = 0 ∧ ¬ gc_Sh x1 x3 x4 x7 x8) (hz : z1 = z0) (h : post 1 ()) :
    wL_lawOf_178 post mc ms x1 x2 x3 x4 x5 x6 x7 x8 x9 z0 z1 kc ks nc 2 le fc a1 a2 a3 a4 a5 a6 a7 a8 a9 a10 a11 a12 a13 a14 a15 a16 a17 := by
  refine br_t hz ?_
  have hs' := hs
  rcases hs with ⟨hn, h6, h8⟩ | ⟨hn, h6, h8, h4, h1, h2⟩ | ⟨hn, h6, h8, h4, h1, n, hn3, e1, h2⟩
  · have n9 : x9 = 0 := by
      rcases h9 with ⟨_, s⟩ | ⟨h9, _⟩
      · have := s.2.1
        rw [h8] at this
        exact absurd this (by decide)
      · exact h9
    subst hn
    exact gc_value0 (br_t h6 (gc_l221 hs' hi (Or.inl ⟨n9, rfl⟩) h))
  · have n9 : x9 = 0 := by
      rcases h9 with ⟨_, s⟩ | ⟨h9, _⟩
      · have := s.2.1
        rw [h8] at this
        exact absurd this (by decide)
      · exact h9
    subst hn
    refine gc_value1 (K := 0) (V := fun _ _ => x1) (Or.inl ⟨h4, rfl⟩) (Or.inr ⟨rfl, rfl⟩) (fun _ => rfl) h1 h2 (fun le b7 b8 b9 b10 b11 b12 h7 h10 => gc_ex1 h7 h10) (fun r le fc b7 b8 b9 b10 b11 b12 b13 b15 b16 b17 hF hV => ?_)
    have no : (∀ i e : Nat, i ≤ 0 → e < 3 → x3 = nI i → x5 = nI e → False) → wL_lawOf_221 post mc ms x2 x4 x5 x7 x9 r kc ks 1 2 le fc a1 a2 a3 a4 a5 a6 b7 b8 b9 b10 b11 b12 b13 a14 b15 b16 b17 :=
      fun g => gc_l221 hs' hi (Or.inl ⟨n9, hF g⟩) h
    refine br_f (by rw [h6]; decide) (br_t h8 (br_c (fun i0 => br_c (fun c => no ?_) (fun c => br_c (fun d => no ?_) (fun d => gc_l231 hs' hi ?_ h))) (fun i0 => no ?_)))
    · intro i e hi he e3 e5
      rw [e5] at c
      exact nI_pos (by omega) c
    · intro i e hi he e3 e5
      rw [e5] at d
      exact nI_nlt (a := 2) (b := e) (by omega) (by omega) d
    · obtain ⟨e, he, e5⟩ := nI_of2 (M := 2) (n := 2) (by decide) c (Int32.not_lt.mp d)
      exact hV 0 e (by omega) (by omega) i0 e5
    · intro i e hi he e3 e5
      rw [show i = 0 by omega] at e3
      exact i0 e3
  · subst hn
    have h4' : ¬ a4 0 = 0 := by
      rw [h4]
      decide
    refine gc_value1 (K := 3) (V := fun e c => a5 (12 * e + 4 * n + c)) (Or.inr ⟨h4', rfl⟩) (Or.inl ⟨rfl, rfl⟩) (fun z => absurd z (by decide)) h1 h2 (fun le b7 b8 b9 b10 b11 b12 h7 h10 => gc_ex0 hn3 h7 h10) (fun r le fc b7 b8 b9 b10 b11 b12 b13 b15 b16 b17 hF hV => ?_)
    exact br_f (by rw [h6]; decide) (br_f (by rw [h8]; decide) (gc_l221 hs' hi (gc_want hn3 e1 h8 hi h9 hF hV) h))
theorem gc_lvec (hs : gc_St x1 x6 x8 nc a1 a2 a4) (hi : gc_In x2 x4 x5 x7 a5) (h9 : x9 = 1 ∧ gc_Sh x1 x3 x4 x7 x8 ∨ x9 = 0 ∧ ¬ gc_Sh x1 x3 x4 x7 x8) (h : post 1 ()) :
    wpX_isVector (fun r => (((x6 = 0 → (wL_lawOf_178 post mc ms x1 x2 x3 x4 x5 x6 x7 x8 x9 (-1) r kc ks nc 2 le fc a1 a2 a3 a4 a5 a6 a7 a8 a9 a10 a11 a12 a13 a14 a15 a16 a17)) ∧ (¬ x6 = 0 → (((x8 = 0 → (wL_lawOf_178 post mc ms x1 x2 x3 x4 x5 x6 x7 x8 x9 0 r kc ks nc 2 le fc a1 a2 a3 a4 a5 a6 a7 a8 a9 a10 a11 a12 a13 a14 a15 a16 a17)) ∧ (¬ x8 = 0 → (wL_lawOf_178 post mc ms x1 x2 x3 x4 x5 x6 x7 x8 x9 1 r kc ks nc 2 le fc a1 a2 a3 a4 a5 a6 a7 a8 a9 a10 a11 a12 a13 a14 a15 a16 a17)))))))) (nc, 2, le, fc, a1, a2, a3, a4, a5, a6, a7, a8, a9, a10, a11, a12, a13, a14, a15, a16, a17) 0 := by
  have hs' := hs
  rcases hs with ⟨hn, h6, h8⟩ | ⟨hn, h6, h8, h4, h1, h2⟩ | ⟨hn, h6, h8, h4, h1, n, hn3, e1, h2⟩
  · subst hn
    exact br_f (by decide) (br_t (by decide) (br_t rfl (br_t h6 (gc_l178 hs' hi h9 rfl h))))
  · subst hn
    exact br_f (by decide) (br_f (by decide) (br_f (by decide) ⟨pk_in 0 12 (by decide), br_t h4 (br_f (by rw [h6]; decide) (br_t h8 (gc_l178 hs' hi h9 rfl h)))⟩))
  · subst hn
    have h4' : ¬ a4 0 = 0 := by
      rw [h4]
      decide
    exact br_f (by decide) (br_f (by decide) (br_f (by decide) ⟨pk_in 0 12 (by decide), br_f h4' (br_f (by rw [h6]; decide) (br_f (by rw [h8]; decide) (gc_l178 hs' hi h9 rfl h)))⟩))
theorem gc_l131 (hs : gc_St x1 x6 x8 nc a1 a2 a4) (h5 : a5 = fun _ => 0) (h7 : x7 = 0 ∧ ¬ gc_P x4 x5 ∨ x7 = 1 ∧ gc_P x4 x5) (h9 : x9 = 1 ∧ gc_Sh x1 x3 x4 x7 x8 ∨ x9 = 0 ∧ ¬ gc_Sh x1 x3 x4 x7 x8) (hz : z1 = z0) (h : post 1 ()) :
    wL_lawOf_131 post mc ms x1 x2 x3 x4 x5 x6 x7 x8 x9 z0 z1 kc ks nc 2 le fc a1 a2 a3 a4 a5 a6 a7 a8 a9 a10 a11 a12 a13 a14 a15 a16 a17 := by
  subst h5
  refine br_t hz (gc_set (fun hP => ?_) (fun hP q m hq hm e1 e2 => ?_))
  · rcases h7 with ⟨h7, _⟩ | ⟨_, hP'⟩
    · exact br_t h7.symm (gc_lvec hs (Or.inl ⟨h7, hP, rfl⟩) h9 h)
    · exact absurd hP' hP
  · rcases h7 with ⟨_, hP'⟩ | ⟨h7, _⟩
    · exact absurd hP hP'
    · exact br_t h7.symm (gc_lvec hs (Or.inr ⟨h7, hP, q, m, hq, hm, e1, e2, rfl⟩) h9 h)
/-- made, and input -/
def gc_Md (x0 x1 x6 x8 : Int32) : Prop := x6 = 0 ∧ x8 = 0 ∧ ¬ gc_M x0 x1 ∨ x6 = 1 ∧ x8 = 0 ∧ x0 = 1 ∨ x6 = 1 ∧ x8 = 1 ∧ x0 = 0 ∧ ¬ x1 < 0 ∧ ¬ 2 < x1
theorem gc_l102 (h6 : gc_Md x0 x1 x6 x8) (h7 : x7 = 0 ∧ ¬ gc_P x4 x5 ∨ x7 = 1 ∧ gc_P x4 x5) (h9 : z0 = 1 ∧ gc_Sh x1 x3 x4 x7 x8 ∨ z0 = 0 ∧ ¬ gc_Sh x1 x3 x4 x7 x8) (h : post 1 ()) :
    wL_lawOf_102 post 1890 30224 x0 x1 x2 x3 x4 x5 x6 x7 x8 z0 0 0 := by
  refine ⟨by decide, by decide, 17, 5365, by decide, by decide, gc_init (gc_node (fun hM => ?_) (fun e0 b1 b2 b3 b4 h1 h2 h4 => ?_) (fun e0 c d b1 b2 b3 b4 h1 h2 h4 => ?_))⟩
  · rcases h6 with ⟨h6, h8, _⟩ | ⟨h6, h8, e0⟩ | ⟨h6, h8, e0, c, d⟩
    · exact br_t h6 (gc_l131 (Or.inl ⟨rfl, h6, h8⟩) rfl h7 h9 rfl h)
    · exact absurd (Or.inr e0) hM
    · exact absurd (Or.inl ⟨e0, c, d⟩) hM
  · rcases h6 with ⟨h6, h8, hM⟩ | ⟨h6, h8, _⟩ | ⟨h6, h8, e0', c, d⟩
    · exact absurd (Or.inr e0) hM
    · exact br_f (by rw [h6]; decide) (gc_l131 (Or.inr (Or.inl ⟨rfl, h6, h8, h4, h1, h2⟩)) rfl h7 h9 rfl h)
    · rw [e0] at e0'
      exact absurd e0' (by decide)
  · rcases h6 with ⟨h6, h8, hM⟩ | ⟨h6, h8, e0'⟩ | ⟨h6, h8, _, _, _⟩
    · exact absurd (Or.inl ⟨e0, c, d⟩) hM
    · rw [e0] at e0'
      exact absurd e0' (by decide)
    · obtain ⟨n, hn, e1⟩ := nI_of2 (M := 2) (n := 2) (by decide) c (Int32.not_lt.mp d)
      exact br_f (by rw [h6]; decide) (gc_l131 (Or.inr (Or.inr ⟨rfl, h6, h8, h4, h1, n, by omega, e1, h2.trans e1⟩)) rfl h7 h9 rfl h)
theorem gc_l69 (h6 : gc_Md x0 x1 x6 z0) (h7 : x7 = 0 ∧ ¬ gc_P x4 x5 ∨ x7 = 1 ∧ gc_P x4 x5) (h : post 1 ()) : wL_lawOf_69 post 1890 30224 x0 x1 x2 x3 x4 x5 x6 x7 z0 0 0 := by
  have no : ¬ gc_Sh x1 x3 x4 x7 z0 → wL_lawOf_101 post 1890 30224 x0 x1 x2 x3 x4 x5 x6 x7 z0 0 0 := fun g => gc_l102 h6 h7 (Or.inr ⟨rfl, g⟩) h
  refine br_c (fun a => no (fun s => ?_)) (fun a => br_c (fun b => no (fun s => ?_)) (fun b => br_c (fun c => br_c (fun d => ?_) (fun d => no (fun s => d s.2.2.2))) (fun c => no (fun s => c s.2.2.1))))
  · have := s.1
    rw [a] at this
    exact absurd this (by decide)
  · have := s.2.1
    rw [b] at this
    exact absurd this (by decide)
  · have e7 : x7 = 1 := by
      rcases h7 with h7 | h7
      · exact absurd h7.1 a
      · exact h7.1
    have e8 : z0 = 1 := by
      rcases h6 with h6 | h6 | h6
      · exact absurd h6.2.1 b
      · exact absurd h6.2.1 b
      · exact h6.2.1
    exact gc_l102 h6 h7 (Or.inl ⟨rfl, e7, e8, c, d⟩) h
theorem gc_l53 (h6 : x6 = 0 ∧ ¬ gc_M x0 x1 ∨ x6 = 1 ∧ gc_M x0 x1) (h7 : z0 = 0 ∧ ¬ gc_P x4 x5 ∨ z0 = 1 ∧ gc_P x4 x5) (h : post 1 ()) : wL_lawOf_53 post 1890 30224 x0 x1 x2 x3 x4 x5 x6 z0 0 0 := by
  rcases h6 with ⟨h6, hM⟩ | ⟨h6, hM⟩
  · exact br_t h6 (gc_l69 (Or.inl ⟨h6, rfl, hM⟩) h7 h)
  · refine br_f (by rw [h6]; decide) ?_
    rcases hM with ⟨e0, c, d⟩ | e0
    · exact br_t e0 (gc_l69 (Or.inr (Or.inr ⟨h6, rfl, e0, c, d⟩)) h7 h)
    · exact br_f (by rw [e0]; decide) (gc_l69 (Or.inr (Or.inl ⟨h6, rfl, e0⟩)) h7 h)
theorem gc_l23 (h6 : z0 = 0 ∧ ¬ gc_M x0 x1 ∨ z0 = 1 ∧ gc_M x0 x1) (h : post 1 ()) : wL_lawOf_23 post 1890 30224 x0 x1 x2 x3 x4 x5 z0 0 0 := by
  have no : ¬ gc_P x4 x5 → wL_lawOf_52 post 1890 30224 x0 x1 x2 x3 x4 x5 z0 0 0 := fun g => gc_l53 h6 (Or.inl ⟨rfl, g⟩) h
  exact br_c (fun a => no (fun s => s.1 a)) (fun a => br_c (fun b => no (fun s => s.2.1 b)) (fun b => br_c (fun c => no (fun s => s.2.2.1 c)) (fun c => br_c (fun d => no (fun s => s.2.2.2 d)) (fun d => gc_l53 h6 (Or.inr ⟨rfl, a, b, c, d⟩) h))))
theorem gc_law (h : post 1 ()) : wpL_lawOf post 1890 30224 () x0 x1 x2 x3 x4 x5 := by
  have ye : gc_M x0 x1 → wL_lawOf_18 post 1890 30224 x0 x1 x2 x3 x4 x5 0 0 := fun g => gc_l23 (Or.inr ⟨rfl, g⟩) h
  have go : ¬ (x0 = 0 ∧ ¬ x1 < 0 ∧ ¬ 2 < x1) → wL_lawOf_13 post 1890 30224 x0 x1 x2 x3 x4 x5 0 0 := fun g => br_c (fun e => ye (Or.inr e)) (fun e => gc_l23 (Or.inl ⟨rfl, fun s => s.elim g e⟩) h)
  exact br_c (fun a => br_c (fun b => go (fun s => s.2.1 b)) (fun b => br_c (fun c => ye (Or.inl ⟨a, b, Int32.not_lt.mpr c⟩)) (fun c => go (fun s => c (Int32.not_lt.mp s.2.2))))) (fun a => go (fun s => a s.1))
end
end
section
theorem gc_cell {post : Int32 → Prop} {L : Nat} {xs : Nat → Int32} (hL : L ≤ 6) (k : Nat) (hk : k < 6) {p1 : Int32} (hp : p1 = nI k) (H : ∀ r, post r) : wpL_cellAt post L xs () p1 := by
  subst hp
  exact pk_le L k (fun _ => H _) (fun z => ⟨pk_in k L z rfl (by omega), H _⟩)
theorem i_vc (xs : Nat → Int32) (L : Nat) (hL : L ≤ 6) : wpL_law (fun r => r = 1) L xs :=
  gc_cell hL 0 (by decide) rfl (fun _ => gc_cell hL 1 (by decide) rfl (fun _ => gc_cell hL 2 (by decide) rfl (fun _ => gc_cell hL 3 (by decide) rfl (fun _ => gc_cell hL 4 (by decide) rfl (fun _ => gc_cell hL 5 (by decide) rfl (fun _ => ⟨1890, 30224, by decide, by decide, gc_law rfl⟩))))))
end
