section
/-! the class's methods that the law reaches, at the states it reaches them in: at most one letter is spelled, state 0 is the root, its base is 0 -/
/-- letter k is the only word of the dictionary, its cost is v -/
def zq_H (k : Nat) (v : Int32) (a1 a2 a3 a5 : Nat → Int32) : Prop := a1 0 = 0 ∧ a2 (k + 1) = 0 ∧ (∀ j, j < 4 → j ≠ k → a2 (j + 1) = -1) ∧ a3 (k + 1) = v ∧ a5 0 = 1 ∧ a5 (k + 1) = 1
/-- the dictionary is empty -/
def zq_E (a1 a2 a5 : Nat → Int32) : Prop := a1 0 = 0 ∧ (∀ j, j < 4 → a2 (j + 1) = -1) ∧ a5 0 = 0
theorem zq_c0 : (0 : Int32).toNatClampNeg = 0 := sb_cl0
theorem zq_at0 {a : Nat → Int32} {x : Int32} (h : a 0 = x) : a (0 : Int32).toNatClampNeg = x := (congrArg a zq_c0).trans h
theorem zq_atk {a : Nat → Int32} {k : Nat} {x : Int32} (hk : k < 4) (h : a (k + 1) = x) : a (nI (k + 1)).toNatClampNeg = x := (congrArg a (nI_clamp (by omega))).trans h
/-- the cell of a letter's child of the root -/
theorem zq_cell {a : Nat → Int32} {k : Nat} {p : Int32} (h1 : a 0 = 0) (hp : p = nI k) : a (0 : Int32).toNatClampNeg + p + 1 = nI (k + 1) := by
  rw [zq_at0 h1, hp, nI_succ]
  congr 1
  rw [← nI_0, nI_add, Nat.zero_add]
section
variable {f0 f1 f2 f3 f4 f5 : Int32} {a1 a2 a3 a4 a5 a6 a7 a8 a9 a10 a11 : Nat → Int32} {k : Nat} {p0 p1 : Int32}
/-! childOf at the root: there is a child, there is none -/
theorem zq_ch {post : Int32 → Prop} (hk : k < 4) (hp : p1 = nI k) (h1 : a1 0 = 0) (h2 : a2 (k + 1) = 0) (H : post (nI (k + 1))) :
    wpX_childOf post (f0, f1, f2, f3, f4, f5, a1, a2, a3, a4, a5, a6, a7, a8, a9, a10, a11) 0 p1 :=
  ⟨pk_in 0 512 (by omega), nm_r (zq_cell h1 hp) (br_f (nI_nle (by omega) (by omega)) ⟨pk_in (k + 1) 512 (by omega), br_t (zq_atk hk h2) H⟩)⟩
theorem zq_cm {post : Int32 → Prop} (hk : k < 4) (hp : p1 = nI k) (h1 : a1 0 = 0) (h2 : a2 (k + 1) = -1) (H : post (-1)) :
    wpX_childOf post (f0, f1, f2, f3, f4, f5, a1, a2, a3, a4, a5, a6, a7, a8, a9, a10, a11) 0 p1 :=
  ⟨pk_in 0 512 (by omega), nm_r (zq_cell h1 hp) (br_f (nI_nle (by omega) (by omega)) ⟨pk_in (k + 1) 512 (by omega), br_f (by rw [zq_atk hk h2]; decide) H⟩)⟩
/-! find: no letter spelled; one, and it is there; one, and it isn't -/
theorem zq_f0 {post : Int32 → Prop} (H : post 0) : wpX_find post (f0, 0, f2, f3, f4, f5, a1, a2, a3, a4, a5, a6, a7, a8, a9, a10, a11) :=
  ⟨0 + 1, br_t (by decide) H⟩
theorem zq_fh {post : Int32 → Prop} (hk : k < 4) (h6 : a6 0 = nI k) (h1 : a1 0 = 0) (h2 : a2 (k + 1) = 0) (H : post (nI (k + 1))) :
    wpX_find post (f0, 1, f2, f3, f4, f5, a1, a2, a3, a4, a5, a6, a7, a8, a9, a10, a11) :=
  ⟨0 + 1 + 1, br_f (by decide) (br_f (by decide) ⟨pk_in 0 5 (by omega), zq_ch hk (zq_at0 h6) h1 h2 (nm_e (br_t (by decide) H))⟩)⟩
theorem zq_fm {post : Int32 → Prop} (hk : k < 4) (h6 : a6 0 = nI k) (h1 : a1 0 = 0) (h2 : a2 (k + 1) = -1) (H : post (-1)) :
    wpX_find post (f0, 1, f2, f3, f4, f5, a1, a2, a3, a4, a5, a6, a7, a8, a9, a10, a11) :=
  ⟨0 + 1 + 1, br_f (by decide) (br_f (by decide) ⟨pk_in 0 5 (by omega), zq_cm hk (zq_at0 h6) h1 h2 (nm_e (br_t (by decide) H))⟩)⟩
/-! spell, behind a clearing -/
theorem zq_sp {post : Int32 → St2 → Prop} (H : post 1 (f0, 1, f2, f3, f4, f5, a1, a2, a3, a4, a5, upd a6 0 (p0 &&& 3), a7, a8, a9, a10, a11)) :
    wpX_spell post (f0, 0, f2, f3, f4, f5, a1, a2, a3, a4, a5, a6, a7, a8, a9, a10, a11) p0 :=
  br_t (by decide) ⟨pk_in 0 5 (by omega), nm_r (by rw [zq_c0]) (nm_r (by decide) H)⟩
/-! beginning of no letter; lookUp of one -/
theorem zq_be {post : Int32 → Prop} (H : post (a5 0)) : wpX_beginning post (f0, 0, f2, f3, f4, f5, a1, a2, a3, a4, a5, a6, a7, a8, a9, a10, a11) := by
  unfold wpX_beginning
  exact zq_f0 (br_t (by decide) ⟨pk_in 0 512 (by omega), by rw [zq_c0]; exact H⟩)
theorem zq_lh {post : Int32 → Prop} (hk : k < 4) (h6 : a6 0 = nI k) (h1 : a1 0 = 0) (h2 : a2 (k + 1) = 0) (H : post (a3 (k + 1))) :
    wpX_lookUp post (f0, 1, f2, f3, f4, f5, a1, a2, a3, a4, a5, a6, a7, a8, a9, a10, a11) := by
  unfold wpX_lookUp
  exact zq_fh hk h6 h1 h2 (br_t (nI_pos' (by omega)) ⟨pk_in (k + 1) 512 (by omega), by rw [nI_clamp (by omega)]; exact H⟩)
theorem zq_lm {post : Int32 → Prop} (hk : k < 4) (h6 : a6 0 = nI k) (h1 : a1 0 = 0) (h2 : a2 (k + 1) = -1) (H : post (-1)) :
    wpX_lookUp post (f0, 1, f2, f3, f4, f5, a1, a2, a3, a4, a5, a6, a7, a8, a9, a10, a11) := by
  unfold wpX_lookUp
  exact zq_fm hk h6 h1 h2 (br_f (by decide) H)
/-! addChild at the root, the cell free -/
theorem zq_ac {post : Int32 → St2 → Prop} (hk : k < 4) (hp : p1 = nI k) (h1 : a1 0 = 0) (h2 : a2 (k + 1) = -1)
    (H : post (nI (k + 1)) (f0, f1, f2, f3, f4, f5, upd a1 (k + 1) 0, upd a2 (k + 1) 0, upd a3 (k + 1) (-1), a4, upd a5 (k + 1) 0, a6, a7, a8, a9, a10, a11)) :
    wpX_addChild post (f0, f1, f2, f3, f4, f5, a1, a2, a3, a4, a5, a6, a7, a8, a9, a10, a11) 0 p1 := by
  have hi : vp_in (nI (k + 1)) 512 := pk_in (k + 1) 512 (by omega)
  have hc : (nI (k + 1)).toNatClampNeg = k + 1 := nI_clamp (by omega)
  refine ⟨pk_in 0 512 (by omega), nm_r (zq_cell h1 hp) ⟨hi, br_f (by rw [zq_atk hk h2]; decide) (br_f (nI_ne0 (by omega) (by omega)) ?_)⟩⟩
  refine ⟨hi, nm_r (by rw [hc]) ⟨hi, nm_r (by rw [hc]) ⟨hi, nm_r (by rw [hc]) ⟨hi, nm_r (by rw [hc]) H⟩⟩⟩⟩
end
end
section
/-! learn, forget -/
section
variable {f0 f2 f3 f4 f5 : Int32} {a1 a2 a3 a4 a5 a6 a7 a8 a9 a10 a11 : Nat → Int32} {k : Nat} {p0 p1 v : Int32}
/-! grow, one letter spelled, the dictionary empty -/
theorem zq_gr {post : Int32 → St2 → Prop} (hk : k < 4) (h6 : a6 0 = nI k) (e : zq_E a1 a2 a5)
    (H : ∀ b1 b2 b3 b5 : Nat → Int32, (∀ w, zq_H k w b1 b2 (upd b3 (k + 1) w) b5) → post (nI (k + 1)) (f0, 1, f2, f3, f4, f5, b1, b2, b3, a4, b5, a6, a7, a8, a9, a10, a11)) :
    wpX_grow post (f0, 1, f2, f3, f4, f5, a1, a2, a3, a4, a5, a6, a7, a8, a9, a10, a11) := by
  obtain ⟨h1, h2, h5⟩ := e
  have hi : vp_in (nI (k + 1)) 512 := pk_in (k + 1) 512 (by omega)
  have hc : (nI (k + 1)).toNatClampNeg = k + 1 := nI_clamp (by omega)
  refine nm_e ⟨0 + 1 + 1, br_f (by decide) ⟨pk_in 0 5 (by omega), zq_cm hk (zq_at0 h6) h1 (h2 k hk) (br_f (by decide) ⟨pk_in 0 5 (by omega), zq_ac hk (zq_at0 h6) h1 (h2 k hk) ?_⟩)⟩⟩
  refine ⟨hi, hi, nm_r (by rw [hc]) (nm_e (br_t (by decide) (H _ _ _ _ (fun w => ⟨?_, ?_, fun j hj hn => ?_, ?_, ?_, ?_⟩))))⟩
  · rw [pk_un (by omega)]; exact h1
  · exact pk_us
  · rw [pk_un (by omega)]; exact h2 j hj
  · exact pk_us
  · rw [pk_un (by omega), pk_un (by omega), pk_us, h5]; decide
  · rw [pk_us, pk_us]; decide
/-! learn: a cost out of bounds; a new word; a known one -/
theorem zq_lb {post : Int32 → St2 → Prop} (h : p0 < 0 ∨ 99 < p0) (H : post (-1) (f0, 1, f2, f3, f4, f5, a1, a2, a3, a4, a5, a6, a7, a8, a9, a10, a11)) :
    wpX_learn post (f0, 1, f2, f3, f4, f5, a1, a2, a3, a4, a5, a6, a7, a8, a9, a10, a11) p0 p1 :=
  br_f (by decide) (br_c (fun _ => H) (fun g => br_t (h.resolve_left g) H))
theorem zq_ln {post : Int32 → St2 → Prop} (hk : k < 4) (h6 : a6 0 = nI k) (e : zq_E a1 a2 a5) (g0 : ¬ p0 < 0) (g1 : ¬ 99 < p0) (g2 : ¬ p1 < 0) (g3 : p1 ≤ 2)
    (H : ∀ b1 b2 b3 b4 b5 : Nat → Int32, zq_H k p0 b1 b2 b3 b5 → post 1 (f0, 0, f2, 0, f4, f5, b1, b2, b3, b4, b5, a6, a7, a8, a9, a10, a11)) :
    wpX_learn post (f0, 1, f2, f3, f4, f5, a1, a2, a3, a4, a5, a6, a7, a8, a9, a10, a11) p0 p1 := by
  have hi : vp_in (nI (k + 1)) 512 := pk_in (k + 1) 512 (by omega)
  have hc : (nI (k + 1)).toNatClampNeg = k + 1 := nI_clamp (by omega)
  refine br_f (by decide) (br_f g0 (br_f g1 (br_f g2 (br_t g3 (zq_fm hk h6 e.1 (e.2.1 k hk) (br_t (by decide) ?_))))))
  refine br_t rfl (br_t (by rw [e.2.2]; decide) (zq_gr hk h6 e (fun b1 b2 b3 b5 hb => ?_)))
  refine ⟨hi, nm_r (by rw [hc]) ⟨hi, nm_e ?_⟩⟩
  rw [(hb p0).2.2.2.2.1]
  exact H _ _ _ _ _ (hb p0)
theorem zq_lo {post : Int32 → St2 → Prop} (hk : k < 4) (h6 : a6 0 = nI k) (e : zq_H k v a1 a2 a3 a5) (gv : ¬ v < 0) (g0 : ¬ p0 < 0) (g1 : ¬ 99 < p0) (g2 : ¬ p1 < 0) (g3 : p1 ≤ 2)
    (H : ∀ b1 b2 b3 b4 b5 : Nat → Int32, zq_H k p0 b1 b2 b3 b5 → post 1 (f0, 0, f2, 0, f4, f5, b1, b2, b3, b4, b5, a6, a7, a8, a9, a10, a11)) :
    wpX_learn post (f0, 1, f2, f3, f4, f5, a1, a2, a3, a4, a5, a6, a7, a8, a9, a10, a11) p0 p1 := by
  have hi : vp_in (nI (k + 1)) 512 := pk_in (k + 1) 512 (by omega)
  have hc : (nI (k + 1)).toNatClampNeg = k + 1 := nI_clamp (by omega)
  obtain ⟨h1, h2, hn, h3, h5, h5k⟩ := e
  refine br_f (by decide) (br_f g0 (br_f g1 (br_f g2 (br_t g3 (zq_fh hk h6 h1 h2 (br_f (nI_pos (by omega)) ⟨hi, br_f (by rw [zq_atk hk h3]; exact gv) ?_⟩))))))
  refine br_f (by decide) ⟨hi, nm_r (by rw [hc]) ⟨hi, nm_e ?_⟩⟩
  rw [h5]
  exact H _ _ _ _ _ ⟨h1, h2, hn, pk_us, h5, h5k⟩
/-! forget: the word isn't there; it is -/
theorem zq_gm {post : Int32 → St2 → Prop} (hk : k < 4) (h6 : a6 0 = nI k) (h1 : a1 0 = 0) (h2 : a2 (k + 1) = -1) (H : ∀ u, post (-1) u) :
    wpX_forget post (f0, 1, f2, f3, f4, f5, a1, a2, a3, a4, a5, a6, a7, a8, a9, a10, a11) := by
  unfold wpX_forget
  exact zq_fm hk h6 h1 h2 (br_t (by decide) (H _))
theorem zq_re {post : St2 → Prop} {f1 : Int32} (hk : k < 4) (H : post (f0, f1, f2, f3, f4, f5, upd a1 (k + 1) 0, upd a2 (k + 1) (-1), upd a3 (k + 1) (-1), a4, upd a5 (k + 1) 0, a6, a7, a8, a9, a10, a11)) :
    wpX_release post (f0, f1, f2, f3, f4, f5, a1, a2, a3, a4, a5, a6, a7, a8, a9, a10, a11) (nI (k + 1)) := by
  have hi : vp_in (nI (k + 1)) 512 := pk_in (k + 1) 512 (by omega)
  have hc : (nI (k + 1)).toNatClampNeg = k + 1 := nI_clamp (by omega)
  exact ⟨hi, nm_r (by rw [hc]) ⟨hi, nm_r (by rw [hc]) ⟨hi, nm_r (by rw [hc]) ⟨hi, nm_r (by rw [hc]) H⟩⟩⟩⟩
theorem zq_pr {post : St2 → Prop} (hk : k < 4) (h6 : a6 0 = nI k) (h1 : a1 0 = 0) (h2 : a2 (k + 1) = 0) (h5 : a5 0 = 1) (h5k : a5 (k + 1) = 1)
    (H : ∀ b1 b2 b3 b5 : Nat → Int32, b5 0 = 0 → post (f0, 1, f2, f3, f4, f5, b1, b2, b3, a4, b5, a6, a7, a8, a9, a10, a11)) :
    wpX_prune post (f0, 1, f2, f3, f4, f5, a1, a2, a3, a4, a5, a6, a7, a8, a9, a10, a11) := by
  have hi : vp_in (nI (k + 1)) 512 := pk_in (k + 1) 512 (by omega)
  have hc : (nI (k + 1)).toNatClampNeg = k + 1 := nI_clamp (by omega)
  refine nm_r (e' := upd a5 0 0) (by rw [h5]; rfl) ⟨0 + 1 + 1, br_f (by decide) ⟨pk_in 0 5 (by omega), zq_ch hk (zq_at0 h6) h1 h2 ⟨pk_in 0 512 (by omega), br_t (zq_at0 pk_us) (br_t rfl ?_)⟩⟩⟩
  refine ⟨hi, hi, nm_r (e' := upd (upd a5 0 0) (k + 1) 0) (by rw [hc, pk_un (by omega), h5k]; rfl) (nm_e (br_t (by decide) ⟨hi, br_t (zq_atk hk pk_us) (zq_re hk (H _ _ _ _ ?_))⟩))⟩
  rw [pk_un (by omega), pk_un (by omega), pk_us]
theorem zq_gh {post : Int32 → St2 → Prop} (hk : k < 4) (h6 : a6 0 = nI k) (e : zq_H k v a1 a2 a3 a5) (gv : ¬ v < 0) (H : ∀ u, post 0 u) :
    wpX_forget post (f0, 1, f2, f3, f4, f5, a1, a2, a3, a4, a5, a6, a7, a8, a9, a10, a11) := by
  have hi : vp_in (nI (k + 1)) 512 := pk_in (k + 1) 512 (by omega)
  obtain ⟨h1, h2, hn, h3, h5, h5k⟩ := e
  unfold wpX_forget
  refine zq_fh hk h6 h1 h2 (br_f (nI_pos (by omega)) ⟨hi, br_t ?_ ⟨hi, nm_e (zq_pr hk h6 h1 h2 h5 h5k (fun b1 b2 b3 b5 hb => ?_))⟩⟩)
  · rw [zq_atk hk h3]
    exact Int32.not_lt.mp gv
  · show post (b5 0) _
    rw [hb]
    exact H _
end
end
section
/-! the law -/
section
variable {post : Int32 → St0 → Prop} {mc ms kc ks : Nat} {x0 x1 x2 x3 x5 x6 z0 z1 v : Int32} {f0 f1 f2 f3 f4 f5 : Int32} {a1 a2 a3 a4 a5 a6 a7 a8 a9 a10 a11 : Nat → Int32} {k d : Nat}
/-! lookUp and forget: not known, known -/
theorem zq_172m (hd : d < 4) (h6 : a6 0 = nI d) (h1 : a1 0 = 0) (h2 : a2 (d + 1) = -1) (H : post 1 ()) :
    wL_lawOf_172 post mc ms x1 x2 x6 0 kc ks f0 1 f2 f3 f4 f5 a1 a2 a3 a4 a5 a6 a7 a8 a9 a10 a11 := by
  unfold wL_lawOf_172
  refine zq_lm hd h6 h1 h2 (br_t rfl ?_)
  exact br_t rfl (zq_gm hd h6 h1 h2 (fun u => br_t rfl (br_t rfl H)))
theorem zq_198h (hd : d < 4) (h6 : a6 0 = nI d) (e : zq_H d v a1 a2 a3 a5) (gv : ¬ v < 0) (hz : z1 = z0) (H : post 1 ()) :
    wL_lawOf_198 post mc ms 1 z0 z1 kc ks f0 1 f2 f3 f4 f5 a1 a2 a3 a4 a5 a6 a7 a8 a9 a10 a11 :=
  br_t hz (zq_gh hd h6 e gv (fun u => br_f (by decide) (br_t rfl H)))
theorem zq_172h (hd : d < 4) (h6 : a6 0 = nI d) (e : zq_H d v a1 a2 a3 a5) (gv : ¬ v < 0) (hv : (x6 = 0 → v = x1) ∧ (¬ x6 = 0 → v = x2)) (H : post 1 ()) :
    wL_lawOf_172 post mc ms x1 x2 x6 1 kc ks f0 1 f2 f3 f4 f5 a1 a2 a3 a4 a5 a6 a7 a8 a9 a10 a11 := by
  unfold wL_lawOf_172
  refine zq_lh hd h6 e.1 e.2.1 (br_f (by decide) (br_c (fun g => ?_) (fun g => ?_)))
  · exact zq_198h hd h6 e gv (e.2.2.2.1.trans (hv.1 g)) H
  · exact zq_198h hd h6 e gv (e.2.2.2.1.trans (hv.2 g)) H
theorem zq_158 (hk : k < 4) (hx : x0 &&& 3 = nI k) (hd : d < 4) (hx3 : x3 &&& 3 = nI d) (h6 : a6 0 = nI d) (e : zq_H k v a1 a2 a3 a5) (gv : ¬ v < 0) (hv : (x6 = 0 → v = x1) ∧ (¬ x6 = 0 → v = x2)) (H : post 1 ()) :
    wL_lawOf_158 post mc ms x0 x1 x2 x3 x6 kc ks f0 1 f2 f3 f4 f5 a1 a2 a3 a4 a5 a6 a7 a8 a9 a10 a11 := by
  refine br_c (fun g => ?_) (fun g => ?_)
  · rw [hx, hx3, nI_eq (by omega) (by omega)] at g
    subst g
    exact zq_172h hk h6 e gv hv H
  · have hn : d ≠ k := fun z => g (by rw [hx, hx3, z])
    exact zq_172m hd h6 e.1 (e.2.2.1 d hd hn) H
/-! behind the second learn: no word learnt; one -/
theorem zq_133e (e : zq_E a1 a2 a5) (H : post 1 ()) :
    wL_lawOf_133 post mc ms x0 x1 x2 x3 0 0 z0 z0 kc ks f0 0 f2 f3 f4 f5 a1 a2 a3 a4 a5 a6 a7 a8 a9 a10 a11 := by
  obtain ⟨d, hd, hx3⟩ := pk_andE x3 (m := 3) 2 (by decide)
  refine br_t rfl (zq_sp (br_t rfl (br_t rfl (br_t rfl ?_))))
  exact zq_172m hd (by rw [pk_us]; exact hx3) e.1 (e.2.1 d hd) H
theorem zq_133h (hk : k < 4) (hx : x0 &&& 3 = nI k) (e : zq_H k v a1 a2 a3 a5) (gv : ¬ v < 0) (hv : (x6 = 0 → v = x1) ∧ (¬ x6 = 0 → v = x2)) (h56 : ¬ (x5 = 0 ∧ x6 = 0)) (H : post 1 ()) :
    wL_lawOf_133 post mc ms x0 x1 x2 x3 x5 x6 z0 z0 kc ks f0 0 f2 f3 f4 f5 a1 a2 a3 a4 a5 a6 a7 a8 a9 a10 a11 := by
  obtain ⟨d, hd, hx3⟩ := pk_andE x3 (m := 3) 2 (by decide)
  have hd' : d < 4 := hd
  refine br_t rfl (zq_sp (br_t rfl (br_c (fun g => br_c (fun g2 => absurd ⟨g, g2⟩ h56) (fun _ => ?_)) (fun _ => ?_))))
  · exact zq_158 hk hx hd' hx3 (by rw [pk_us]; exact hx3) e gv hv H
  · exact zq_158 hk hx hd' hx3 (by rw [pk_us]; exact hx3) e gv hv H
theorem zq_103e (e : zq_E a1 a2 a5) (H : post 1 ()) :
    wL_lawOf_103 post mc ms x0 x1 x2 x3 0 0 z0 z0 kc ks f0 f1 f2 f3 f4 f5 a1 a2 a3 a4 a5 a6 a7 a8 a9 a10 a11 := by
  refine br_t rfl ?_
  unfold wpX_clearSpelling
  dsimp only
  refine zq_be (br_t rfl (br_t rfl ?_))
  rw [e.2.2]
  exact zq_133e e H
theorem zq_103h (hk : k < 4) (hx : x0 &&& 3 = nI k) (e : zq_H k v a1 a2 a3 a5) (gv : ¬ v < 0) (hv : (x6 = 0 → v = x1) ∧ (¬ x6 = 0 → v = x2)) (h56 : ¬ (x5 = 0 ∧ x6 = 0)) (H : post 1 ()) :
    wL_lawOf_103 post mc ms x0 x1 x2 x3 x5 x6 z0 z0 kc ks f0 f1 f2 f3 f4 f5 a1 a2 a3 a4 a5 a6 a7 a8 a9 a10 a11 := by
  refine br_t rfl ?_
  unfold wpX_clearSpelling
  dsimp only
  refine zq_be (br_c (fun g => br_c (fun g2 => absurd ⟨g, g2⟩ h56) (fun _ => ?_)) (fun _ => ?_))
  · rw [e.2.2.2.2.1]
    exact zq_133h hk hx e gv hv h56 H
  · rw [e.2.2.2.2.1]
    exact zq_133h hk hx e gv hv h56 H
/-- a flag says that a cost is in bounds -/
def zq_B (x f : Int32) : Prop := (f = 0 ∧ (x < 0 ∨ 99 < x)) ∨ (f = 1 ∧ ¬ x < 0 ∧ ¬ 99 < x)
/-! the second learn: the dictionary empty; one word -/
theorem zq_86e (hk : k < 4) (hx : x0 &&& 3 = nI k) (h6 : a6 0 = nI k) (e : zq_E a1 a2 a5) (b : zq_B x2 x6) (H : post 1 ()) :
    wL_lawOf_86 post mc ms x0 x1 x2 x3 0 x6 kc ks f0 1 f2 f3 f4 f5 a1 a2 a3 a4 a5 a6 a7 a8 a9 a10 a11 := by
  unfold wL_lawOf_86
  rcases b with ⟨rfl, b⟩ | ⟨rfl, b0, b1⟩
  · exact zq_lb b (br_t rfl (zq_103e e H))
  · exact zq_ln hk h6 e b0 b1 (by decide) (by decide) (fun b1 b2 b3 b4 b5 h => br_f (by decide) (zq_103h hk hx h b0 ⟨fun z => absurd z (by decide), fun _ => rfl⟩ (fun z => absurd z.2 (by decide)) H))
theorem zq_86h (hk : k < 4) (hx : x0 &&& 3 = nI k) (h6 : a6 0 = nI k) (e : zq_H k x1 a1 a2 a3 a5) (g : ¬ x1 < 0) (b : zq_B x2 x6) (H : post 1 ()) :
    wL_lawOf_86 post mc ms x0 x1 x2 x3 1 x6 kc ks f0 1 f2 f3 f4 f5 a1 a2 a3 a4 a5 a6 a7 a8 a9 a10 a11 := by
  unfold wL_lawOf_86
  rcases b with ⟨rfl, b⟩ | ⟨rfl, b0, b1⟩
  · exact zq_lb b (br_t rfl (zq_103h hk hx e g ⟨fun _ => rfl, fun z => absurd rfl z⟩ (fun z => absurd z.1 (by decide)) H))
  · exact zq_lo hk h6 e g b0 b1 (by decide) (by decide) (fun b1 b2 b3 b4 b5 h => br_f (by decide) (zq_103h hk hx h b0 ⟨fun z => absurd z (by decide), fun _ => rfl⟩ (fun z => absurd z.2 (by decide)) H))
/-! from the first spell on -/
theorem zq_43 (e : zq_E a1 a2 a5) (b : zq_B x1 x5) (b' : zq_B x2 z0) (H : post 1 ()) :
    wL_lawOf_43 post mc ms x0 x1 x2 x3 x5 z0 kc ks f0 0 f2 f3 f4 f5 a1 a2 a3 a4 a5 a6 a7 a8 a9 a10 a11 := by
  obtain ⟨k, hk, hx⟩ := pk_andE x0 (m := 3) 2 (by decide)
  have hk' : k < 4 := hk
  unfold wL_lawOf_43
  refine zq_sp ?_
  rcases b with ⟨rfl, b⟩ | ⟨rfl, b0, b1⟩
  · exact zq_lb b (br_t rfl (br_t rfl (br_t rfl (zq_86e hk' hx (by rw [pk_us]; exact hx) e b' H))))
  · refine zq_ln hk' (by rw [pk_us]; exact hx) e b0 b1 (by decide) (by decide) (fun b1 b2 b3 b4 b5 h => br_f (by decide) (br_t rfl (br_f (by decide) (zq_sp ?_))))
    exact zq_86h hk' hx (by rw [pk_us]; exact hx) h b0 b' H
theorem zq_26 (e : zq_E a1 a2 a5) (b : zq_B x1 z0) (H : post 1 ()) :
    wL_lawOf_26 post mc ms x0 x1 x2 x3 z0 kc ks f0 0 f2 f3 f4 f5 a1 a2 a3 a4 a5 a6 a7 a8 a9 a10 a11 :=
  br_c (fun g => zq_43 e b (Or.inl ⟨rfl, Or.inl g⟩) H) (fun g => br_c (fun g2 => zq_43 e b (Or.inl ⟨rfl, Or.inr g2⟩) H) (fun g2 => zq_43 e b (Or.inr ⟨rfl, g, g2⟩) H))
end
/-! the constructor -/
theorem zq_in {post : St2 → Prop} {mc ms kc ks : Nat} {f0 f1 f2 f3 f4 f5 : Int32} {z1 z4 z5 z6 z7 z8 z9 z10 z11 : Nat → Int32} {y2 y3 : Nat → Int32}
    (H : ∀ a2 a3 : Nat → Int32, (∀ j, j < 4 → a2 (j + 1) = -1) → post (f0, f1, f2, f3, f4, f5, z1, a2, a3, z4, z5, z6, z7, z8, z9, z10, z11)) :
    ∃ n, wX_init_123 post mc ms kc ks f0 f1 f2 f3 f4 f5 n 0 z1 y2 y3 z4 z5 z6 z7 z8 z9 z10 z11 :=
  pk_loop (σ := (Nat → Int32) × (Nat → Int32)) (fun n i s => wX_init_123 post mc ms kc ks f0 f1 f2 f3 f4 f5 n (nI i) z1 s.1 s.2 z4 z5 z6 z7 z8 z9 z10 z11) (fun i s => ∀ j, j < i → s.1 j = -1) 512 0 (y2, y3) (by omega) (fun j hj => absurd hj (by omega))
    (fun n s h => pk_le 512 512 (fun _ => nm_e (H _ _ (fun j hj => by rw [pk_un (by omega)]; exact h (j + 1) (by omega)))) (fun z => absurd z (by omega)))
    (fun n i s hi h hw => pk_le 512 i (fun z => absurd z (by omega)) (fun _ => ⟨pk_in i 512 hi, nm_r (by rw [nI_clamp (by omega)]) ⟨pk_in i 512 hi, nm_e (nm_r (nI_1 i) (hw (upd s.1 i (-1), _) (fun j hj => by
      show upd s.1 i (-1) j = -1
      by_cases ej : j = i
      · rw [ej, pk_us]
      · rw [pk_un ej]; exact h j (by omega))))⟩⟩))
theorem zq_i {post : St2 → Prop} (H : ∀ a1 a2 a3 a4 a5 a6 a7 a8 a9 a10 a11 : Nat → Int32, zq_E a1 a2 a5 → post (50, 0, 0, 0, 0, 0, a1, a2, a3, a4, a5, a6, a7, a8, a9, a10, a11)) :
    wpX_init post 11 2788 (0, 0, 0, 0, 0, 0) 50 := by
  refine br_t (by decide) (br_t (by decide) ?_)
  unfold wX_init_26
  exact ⟨by omega, by omega, by omega, by omega, by omega, by omega, by omega, by omega, by omega, by omega, by omega, by omega, by omega, by omega, by omega, by omega, by omega, by omega, by omega, by omega, by omega, by omega, zq_in (fun a2 a3 h => H _ _ _ _ _ _ _ _ _ _ _ ⟨rfl, h, rfl⟩)⟩
theorem zq_ca {post : Int32 → Prop} {L : Nat} {xs : Nat → Int32} {p : Int32} (i : Nat) (hi : i < 4) (hp : p = nI i) (hL : L ≤ 4) (H : ∀ r, post r) : wpL_cellAt post L xs () p := by
  subst hp
  exact pk_le L i (fun _ => H _) (fun z => ⟨vp_in_nI z (by omega), H _⟩)
theorem i_vc (xs : Nat → Int32) (L : Nat) (hL : L ≤ 4) : wpL_law (fun r => r = 1) L xs := by
  unfold wpL_law
  refine zq_ca 0 (by omega) rfl hL (fun r1 => zq_ca 1 (by omega) rfl hL (fun r2 => zq_ca 2 (by omega) rfl hL (fun r3 => zq_ca 3 (by omega) rfl hL (fun r4 => ?_))))
  refine ⟨1428, 22848, by omega, by omega, by omega, by omega, 11, 2788, by omega, by omega, zq_i (fun a1 a2 a3 a4 a5 a6 a7 a8 a9 a10 a11 e => ?_)⟩
  exact br_c (fun g => zq_26 e (Or.inl ⟨rfl, Or.inl g⟩) rfl) (fun g => br_c (fun g2 => zq_26 e (Or.inl ⟨rfl, Or.inr g2⟩) rfl) (fun g2 => zq_26 e (Or.inr ⟨rfl, g, g2⟩) rfl))
end
