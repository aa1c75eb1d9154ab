section
section
variable {post : St2 → Prop} {pw pc un ms lo lr gc : Int32} {a1 a2 a3 a4 a5 a6 a7 a8 a9 a10 : Nat → Int32}
/-- settle with no closed group: nothing changes -/
theorem ps_set0 {u : St2} {t : Int32} (H : post u) : wpX_settle post u 0 t := by
  obtain ⟨pw, pc, un, ms, lo, lr, gc, a1, a2, a3, a4, a5, a6, a7, a8, a9, a10⟩ := u
  exact ⟨1, br_t (by decide) H⟩
theorem ps_140_0 {t : Int32} (H : post (pw, pc, un, ms, lo, lr, gc, a1, a2, a3, a4, a5, a6, a7, a8, a9, a10)) : ∃ n, wX_measure_140 post t 0 pw pc un ms lo lr gc n 0 a1 a2 a3 a4 a5 a6 a7 a8 a9 a10 :=
  ⟨1, br_t (by decide) H⟩
theorem ps_140_1 {t : Int32} {j : Nat} (hj : j < 60) (h5 : a5 0 = nI j) (h4 : a4 j = t) (H : ∀ b3 : Nat → Int32, b3 j = 0 → post (pw, pc, un, ms, lo, lr, gc, a1, a2, b3, a4, a5, a6, a7, a8, a9, a10)) : ∃ n, wX_measure_140 post t 1 pw pc un ms lo lr gc n 0 a1 a2 a3 a4 a5 a6 a7 a8 a9 a10 := by
  have z : (0 : Int32).toNatClampNeg = 0 := by decide
  have v : vp_in (a5 (0 : Int32).toNatClampNeg) 60 := by
    rw [z, h5]
    exact vp_in_nI hj (by decide)
  have k : (a5 (0 : Int32).toNatClampNeg).toNatClampNeg = j := by
    rw [z, h5]
    exact nI_clamp (by omega)
  refine ⟨2, br_f (by decide) ⟨pk_in 0 12 (by decide), pk_in 0 12 (by decide), v, v, fun a e => nm_r (e' := 1) (by decide) (br_t (by decide) (H a ?_))⟩⟩
  rw [e, k, h4, pk_us, Int32.sub_self]
theorem ps_22_w {k p : Nat} {x1 x2 x3 : Int32} (hp : p < 60) (hc : ¬ pc ≤ nI p) (h1 : a1 p = 0) (H : wX_measure_22 post k (x1 + a2 p) x2 x3 (nI (p + 1)) pw pc un ms lo lr gc a1 a2 a3 a4 a5 a6 a7 a8 a9 a10) : wX_measure_22 post (k + 1) x1 x2 x3 (nI p) pw pc un ms lo lr gc a1 a2 a3 a4 a5 a6 a7 a8 a9 a10 := by
  have z : (nI p).toNatClampNeg = p := nI_clamp (by omega)
  have v : vp_in (nI p) 60 := vp_in_nI hp (by decide)
  have n2 : ¬ a1 (nI p).toNatClampNeg = 2 := by rw [z, h1]; decide
  have n3 : ¬ a1 (nI p).toNatClampNeg = 3 := by rw [z, h1]; decide
  have n1 : ¬ a1 (nI p).toNatClampNeg = 1 := by rw [z, h1]; decide
  exact br_f hc ⟨v, br_f n2 ⟨v, br_f n3 ⟨v, br_f n1 ⟨v, nm_r (e' := x1 + a2 p) (by rw [z]) (nm_r (nI_1 p) H)⟩⟩⟩⟩
theorem ps_22_o {k p d : Nat} {x1 x3 : Int32} (hp : p < 60) (hd : d < 12) (hc : ¬ pc ≤ nI p) (h1 : a1 p = 2) (H : wX_measure_22 post k x1 (nI (d + 1)) x3 (nI (p + 1)) pw pc un ms lo lr gc a1 a2 a3 (upd a4 p x1) (upd a5 d (nI p)) a6 a7 a8 a9 a10) : wX_measure_22 post (k + 1) x1 (nI d) x3 (nI p) pw pc un ms lo lr gc a1 a2 a3 a4 a5 a6 a7 a8 a9 a10 := by
  have z : (nI p).toNatClampNeg = p := nI_clamp (by omega)
  have y : (nI d).toNatClampNeg = d := nI_clamp (by omega)
  have v : vp_in (nI p) 60 := vp_in_nI hp (by decide)
  have n2 : a1 (nI p).toNatClampNeg = 2 := by rw [z, h1]
  exact br_f hc ⟨v, br_t n2 ⟨v, nm_r (e' := upd a4 p x1) (by rw [z]) ⟨vp_in_nI hd (by decide), nm_r (e' := upd a5 d (nI p)) (by rw [y]) (nm_r (nI_1 d) (nm_r (nI_1 p) H))⟩⟩⟩
theorem ps_22_e {k : Nat} {x1 x2 x4 : Int32} (hc : pc ≤ x4) (H : ∃ n, wX_measure_140 post x1 x2 pw pc un ms lo lr gc n 0 a1 a2 a3 a4 a5 a6 a7 a8 a9 a10) : wX_measure_22 post (k + 1) x1 x2 0 x4 pw pc un ms lo lr gc a1 a2 a3 a4 a5 a6 a7 a8 a9 a10 :=
  br_t hc (ps_set0 H)
/-- measure, over w words and then q groups begun -/
theorem ps_meas {w q : Nat} (hw : w ≤ 1) (hq : q ≤ 1) (h1 : w = 1 → a1 0 = 0) (h2 : q = 1 → a1 w = 2)
    (H : ∀ b3 b4 b5 b6 : Nat → Int32, (q = 1 → b3 w = 0) → post (pw, nI (w + q), un, 1, lo, lr, gc, a1, a2, b3, b4, b5, b6, a7, a8, a9, a10)) :
    wpX_measure post (pw, nI (w + q), un, 0, lo, lr, gc, a1, a2, a3, a4, a5, a6, a7, a8, a9, a10) := by
  refine br_t rfl ?_
  have cw : w = 0 ∨ w = 1 := by omega
  have cq : q = 0 ∨ q = 1 := by omega
  rcases cw with rfl | rfl <;> rcases cq with rfl | rfl
  · exact ⟨1, ps_22_e (by decide) (ps_140_0 (H _ _ _ _ (fun h => absurd h (by decide))))⟩
  · exact ⟨2, ps_22_o (p := 0) (d := 0) (by decide) (by decide) (by decide) (h2 rfl) (ps_22_e (by decide) (ps_140_1 (j := 0) (by decide) pk_us pk_us (fun b hb => H _ _ _ _ (fun _ => hb))))⟩
  · exact ⟨2, ps_22_w (p := 0) (by decide) (by decide) (h1 rfl) (ps_22_e (by decide) (ps_140_0 (H _ _ _ _ (fun h => absurd h (by decide)))))⟩
  · exact ⟨3, ps_22_w (p := 0) (by decide) (by decide) (h1 rfl) (ps_22_o (p := 1) (d := 0) (by decide) (by decide) (by decide) (h2 rfl) (ps_22_e (by decide) (ps_140_1 (j := 1) (by decide) pk_us pk_us (fun b hb => H _ _ _ _ (fun _ => hb)))))⟩
end
end
section
/-- the sum of the words -/
def ps_c (w : Nat) (x : Int32) : Int32 := if w = 1 then x else 0
/-- what a layout of w words and q groups leaves: the greatest column, the columns, whether the group is flat -/
def ps_Q (w q : Nat) (m x gc : Int32) (a8 a9 : Nat → Int32) : Prop := gc = ps_c w x ∧ (1 ≤ w + q → a8 0 = 0) ∧ (w + q = 2 → a8 1 = x) ∧ (q = 1 → (m < ps_c w x → a9 w = 0) ∧ (¬ m < ps_c w x → a9 w = 1))
section
variable {post : St2 → Prop} {pw pc un ms lo lr gc m : Int32} {a1 a2 a3 a4 a5 a6 a7 a8 a9 a10 : Nat → Int32}
theorem ps_15_e {k : Nat} {x2 x3 x4 x5 : Int32} (hc : pc ≤ x5) (H : post (pw, pc, un, ms, lo, x2, gc, a1, a2, a3, a4, a5, a6, a7, a8, a9, a10)) : wX_layOut_15 post m pw pc un ms lo lr (k + 1) x2 x3 x4 x5 gc a1 a2 a3 a4 a5 a6 a7 a8 a9 a10 :=
  br_t hc H
theorem ps_232 {J : Int32 → Int32 → Int32 → Int32 → Int32 → (Nat → Int32) → (Nat → Int32) → (Nat → Int32) → (Nat → Int32) → (Nat → Int32) → (Nat → Int32) → (Nat → Int32) → (Nat → Int32) → (Nat → Int32) → (Nat → Int32) → Prop} {x2 x3 x4 x5 y : Int32} (hy : x5 + 1 = y) (H : ∀ g : Int32, (x3 ≤ gc → g = gc) → (¬ x3 ≤ gc → g = x3) → J x2 x3 x4 y g a1 a2 a3 a4 a5 a6 a7 a8 a9 a10) : wX_layOut_232 post J m x2 x3 x4 x5 pw pc un ms lo lr gc a1 a2 a3 a4 a5 a6 a7 a8 a9 a10 :=
  br_c (fun h => nm_r hy (H gc (fun _ => rfl) (fun n => absurd h n))) (fun h => nm_r hy (H x3 (fun z => absurd z h) (fun _ => rfl)))
theorem ps_15_w {k p : Nat} {x2 x3 : Int32} (hp : p < 60) (hc : ¬ pc ≤ nI p) (h1 : a1 p = 0) (H : ∀ g : Int32, (x3 + a2 p ≤ gc → g = gc) → (¬ x3 + a2 p ≤ gc → g = x3 + a2 p) → wX_layOut_15 post m pw pc un ms lo lr k x2 (x3 + a2 p) 0 (nI (p + 1)) g a1 a2 a3 a4 a5 a6 (upd a7 p x2) (upd a8 p x3) a9 a10) : wX_layOut_15 post m pw pc un ms lo lr (k + 1) x2 x3 0 (nI p) gc a1 a2 a3 a4 a5 a6 a7 a8 a9 a10 := by
  have z : (nI p).toNatClampNeg = p := nI_clamp (by omega)
  have v : vp_in (nI p) 60 := vp_in_nI hp (by decide)
  have n2 : ¬ a1 (nI p).toNatClampNeg = 2 := by rw [z, h1]; decide
  have n3 : ¬ a1 (nI p).toNatClampNeg = 3 := by rw [z, h1]; decide
  have n0 : a1 (nI p).toNatClampNeg = 0 := by rw [z, h1]
  exact br_f hc ⟨v, nm_r (e' := upd a7 p x2) (by rw [z]) ⟨v, nm_r (e' := upd a8 p x3) (by rw [z]) (br_t rfl ⟨v, br_f n2 ⟨v, br_f n3 ⟨v, br_t n0 ⟨v, nm_r (e' := x3 + a2 p) (by rw [z]) (ps_232 (nI_1 p) H)⟩⟩⟩⟩)⟩⟩
theorem ps_110 {J : Int32 → Int32 → Int32 → Int32 → Int32 → (Nat → Int32) → (Nat → Int32) → (Nat → Int32) → (Nat → Int32) → (Nat → Int32) → (Nat → Int32) → (Nat → Int32) → (Nat → Int32) → (Nat → Int32) → (Nat → Int32) → Prop} {p : Nat} {x2 x3 b b' : Int32} (hp : p < 60) (hb : vp_nar .boolean b = b') (H : ∀ (g : Int32) (s : Nat → Int32), (x3 ≤ gc → g = gc) → (¬ x3 ≤ gc → g = x3) → J x2 x3 1 (nI (p + 1)) g a1 a2 a3 a4 (upd a5 0 (nI p)) a6 a7 a8 (upd a9 p b') s) : wX_layOut_110 post J m x2 x3 0 (nI p) (-1) b (nI p) pw pc un ms lo lr gc a1 a2 a3 a4 a5 a6 a7 a8 a9 a10 := by
  have z : (nI p).toNatClampNeg = p := nI_clamp (by omega)
  have v : vp_in (nI p) 60 := vp_in_nI hp (by decide)
  exact ⟨v, nm_r (e' := upd a9 p b') (by rw [z, hb]) (br_f (by decide) ⟨v, v, nm_e ⟨pk_in 0 12 (by decide), nm_r (e' := upd a5 0 (nI p)) (by rw [show (0 : Int32).toNatClampNeg = 0 by decide]) (nm_r (e' := 1) (by decide) (ps_232 (nI_1 p) (fun g => H g _)))⟩⟩)⟩
theorem ps_15_o {k p : Nat} {x2 x3 : Int32} (hp : p < 60) (hc : ¬ pc ≤ nI p) (h1 : a1 p = 2)
    (H : ∀ (g b : Int32) (s : Nat → Int32), (x3 ≤ gc → g = gc) → (¬ x3 ≤ gc → g = x3) → (m < x3 + a3 p → b = 0) → (¬ m < x3 + a3 p → b = 1) → wX_layOut_15 post m pw pc un ms lo lr k x2 x3 1 (nI (p + 1)) g a1 a2 a3 a4 (upd a5 0 (nI p)) a6 (upd a7 p x2) (upd a8 p x3) (upd a9 p b) s) :
    wX_layOut_15 post m pw pc un ms lo lr (k + 1) x2 x3 0 (nI p) gc a1 a2 a3 a4 a5 a6 a7 a8 a9 a10 := by
  have z : (nI p).toNatClampNeg = p := nI_clamp (by omega)
  have v : vp_in (nI p) 60 := vp_in_nI hp (by decide)
  have n2 : a1 (nI p).toNatClampNeg = 2 := by rw [z, h1]
  refine br_f hc ⟨v, nm_r (e' := upd a7 p x2) (by rw [z]) ⟨v, nm_r (e' := upd a8 p x3) (by rw [z]) (br_t rfl ⟨v, br_t n2 (br_t (by decide) ⟨v, br_c (fun h => ps_110 (b' := 0) hp (by decide) (fun g s g1 g2 => H g 0 s g1 g2 (fun _ => rfl) (fun n => absurd ?_ n))) (fun h => ps_110 (b' := 1) hp (by decide) (fun g s g1 g2 => H g 1 s g1 g2 (fun n => absurd n ?_) (fun _ => rfl)))⟩)⟩)⟩⟩
  · rw [z] at h
    exact h
  · rw [z] at h
    exact h
/-- layOut, over w words and then q groups begun -/
theorem ps_lay {w q : Nat} {x : Int32} (hw : w ≤ 1) (hq : q ≤ 1) (h1 : w = 1 → a1 0 = 0 ∧ a2 0 = x ∧ ¬ x ≤ 0) (h2 : q = 1 → a1 w = 2 ∧ a3 w = 0)
    (H : ∀ (lr gc : Int32) (a5 a7 a8 a9 a10 : Nat → Int32), ps_Q w q m x gc a8 a9 → post (pw, nI (w + q), un, ms, lo, lr, gc, a1, a2, a3, a4, a5, a6, a7, a8, a9, a10)) :
    wpX_layOut post (pw, nI (w + q), un, ms, lo, lr, gc, a1, a2, a3, a4, a5, a6, a7, a8, a9, a10) m := by
  have cw : w = 0 ∨ w = 1 := by omega
  have cq : q = 0 ∨ q = 1 := by omega
  rcases cw with rfl | rfl <;> rcases cq with rfl | rfl
  · exact ⟨1, ps_15_e (by decide) (H _ _ _ _ _ _ _ ⟨rfl, fun h => absurd h (by decide), fun h => absurd h (by decide), fun h => absurd h (by decide)⟩)⟩
  · obtain ⟨o1, o2⟩ := h2 rfl
    refine ⟨2, ps_15_o (p := 0) (by decide) (by decide) o1 (fun g b s g1 g2 b1 b2 => ps_15_e (by decide) (H _ _ _ _ _ _ _ ⟨g1 (by decide), fun _ => pk_us, fun h => absurd h (by decide), fun _ => ⟨fun h => ?_, fun h => ?_⟩⟩))⟩
    · rw [pk_us]
      refine b1 ?_
      rw [o2]
      exact h
    · rw [pk_us]
      refine b2 ?_
      rw [o2]
      exact h
  · obtain ⟨w1, w2, w3⟩ := h1 rfl
    have e : 0 + a2 0 = x := by rw [w2, Int32.zero_add]
    exact ⟨2, ps_15_w (p := 0) (by decide) (by decide) w1 (fun g g1 g2 => ps_15_e (by decide) (H _ _ _ _ _ _ _ ⟨(g2 (by rw [e]; exact w3)).trans e, fun _ => pk_us, fun h => absurd h (by decide), fun h => absurd h (by decide)⟩))⟩
  · obtain ⟨o1, o2⟩ := h2 rfl
    obtain ⟨w1, w2, w3⟩ := h1 rfl
    have e : 0 + a2 0 = x := by rw [w2, Int32.zero_add]
    refine ⟨3, ps_15_w (p := 0) (by decide) (by decide) w1 (fun g g1 g2 => ps_15_o (p := 1) (by decide) (by decide) o1 (fun g' b s k1 k2 b1 b2 => ps_15_e (by decide) (H _ _ _ _ _ _ _ ⟨?_, fun _ => ?_, fun _ => ?_, fun _ => ⟨fun h => ?_, fun h => ?_⟩⟩)))⟩
    · have eg : g = 0 + a2 0 := g2 (by rw [e]; exact w3)
      exact (k1 (by rw [eg]; exact Int32.le_refl _)).trans (eg.trans e)
    · exact (pk_un (by decide)).trans pk_us
    · exact pk_us.trans e
    · rw [pk_us]
      refine b1 ?_
      rw [o2, e, Int32.add_zero]
      exact h
    · rw [pk_us]
      refine b2 ?_
      rw [o2, e, Int32.add_zero]
      exact h
end
end
section
/-- the object: w words, q groups begun; not laid out yet, or laid out -/
def ps_B (w q : Nat) (m x pw pc un : Int32) (a1 a2 : Nat → Int32) : Prop := pw = m ∧ pc = nI (w + q) ∧ un = nI q ∧ (w = 1 → a1 0 = 0 ∧ a2 0 = x) ∧ (q = 1 → a1 w = 2)
def ps_S (w q : Nat) (m x : Int32) (u : St2) : Prop := match u with
  | (pw, pc, un, ms, lo, lr, gc, a1, a2, a3, a4, a5, a6, a7, a8, a9, a10) => ps_B w q m x pw pc un a1 a2 ∧ (lo = 0 ∧ ms = 0 ∨ lo = 1 ∧ ps_Q w q m x gc a8 a9)
def ps_T (w q : Nat) (m x : Int32) (u : St2) : Prop := match u with
  | (pw, pc, un, ms, lo, lr, gc, a1, a2, a3, a4, a5, a6, a7, a8, a9, a10) => ps_B w q m x pw pc un a1 a2 ∧ lo = 1 ∧ ps_Q w q m x gc a8 a9
section
variable {w q : Nat} {m x : Int32} {u : St2}
theorem ps_prep {post : St2 → Prop} (hw : w ≤ 1) (hq : q ≤ 1) (hx : w = 1 → ¬ x ≤ 0) (hS : ps_S w q m x u) (H : ∀ u', ps_T w q m x u' → post u') : wpX_prepare post u := by
  obtain ⟨pw, pc, un, ms, lo, lr, gc, a1, a2, a3, a4, a5, a6, a7, a8, a9, a10⟩ := u
  obtain ⟨⟨rfl, rfl, rfl, b1, b2⟩, h⟩ := hS
  rcases h with ⟨rfl, rfl⟩ | ⟨rfl, hQ⟩
  · exact br_t rfl (ps_meas hw hq (fun e => (b1 e).1) b2 (fun b3 b4 b5 b6 h3 => ps_lay hw hq (fun e => ⟨(b1 e).1, (b1 e).2, hx e⟩) (fun e => ⟨b2 e, h3 e⟩) (fun lr gc a5 a7 a8 a9 a10 hQ => H _ ⟨⟨rfl, rfl, rfl, b1, b2⟩, rfl, hQ⟩)))
  · exact br_f (by decide) (H _ ⟨⟨rfl, rfl, rfl, b1, b2⟩, rfl, hQ⟩)
theorem ps_flat {post : Int32 → St2 → Prop} {p : Int32} (hw : w ≤ 1) (hq : q ≤ 1) (hx : w = 1 → ¬ x ≤ 0) (hS : ps_S w q m x u)
    (H : ∀ r u', ps_S w q m x u' → (q = 1 → p = nI w → m < ps_c w x → r = 0) → (q = 1 → p = nI w → ¬ m < ps_c w x → r = 1) → (¬ (q = 1 ∧ p = nI w) → r = -1) → post r u') : wpX_flat post u p := by
  obtain ⟨pw, pc, un, ms, lo, lr, gc, a1, a2, a3, a4, a5, a6, a7, a8, a9, a10⟩ := u
  have hS' := hS
  obtain ⟨⟨rfl, rfl, rfl, b1, b2⟩, h⟩ := hS'
  by_cases h0 : p < 0
  · have n0 : ¬ p = nI w := fun e => nI_pos (n := w) (by omega) (e ▸ h0)
    exact br_t h0 (H _ _ hS (fun _ e => absurd e n0) (fun _ e => absurd e n0) (fun _ => rfl))
  · refine br_f h0 ?_
    by_cases h3 : nI (w + q) ≤ p
    · have n0 : q = 1 → ¬ p = nI w := fun e1 e => nI_ge (a := w) (b := w + q) (by omega) (by omega) (e ▸ h3)
      exact br_t h3 (H _ _ hS (fun e1 e => absurd e (n0 e1)) (fun e1 e => absurd e (n0 e1)) (fun _ => rfl))
    · rcases pk_ix p (n := w + q) (by omega) with g | g | ⟨j, hj, rfl⟩
      · exact absurd g h0
      · exact absurd g h3
      · have v : vp_in (nI j) 60 := vp_in_nI (by omega) (by decide)
        have z : (nI j).toNatClampNeg = j := nI_clamp (by omega)
        refine br_f h3 ⟨v, ?_⟩
        rw [z]
        by_cases hj2 : q = 1 ∧ j = w
        · obtain ⟨rfl, rfl⟩ := hj2
          refine br_t (b2 rfl) (ps_prep hw hq hx hS (fun u' hT => ?_))
          obtain ⟨pw', pc', un', ms', lo', lr', gc', c1, c2, c3, c4, c5, c6, c7, c8, c9, c10⟩ := u'
          obtain ⟨hB, hl, hQ⟩ := hT
          obtain ⟨f1, f2⟩ := hQ.2.2.2 rfl
          refine ⟨v, ?_⟩
          refine br_c (fun e => H 0 _ ⟨hB, Or.inr ⟨hl, hQ⟩⟩ (fun _ _ _ => rfl) (fun _ _ n => ?_) (fun n => absurd ⟨rfl, rfl⟩ n)) (fun e => H 1 _ ⟨hB, Or.inr ⟨hl, hQ⟩⟩ (fun _ _ n => absurd (f1 n) e) (fun _ _ _ => rfl) (fun n => absurd ⟨rfl, rfl⟩ n))
          rw [f2 n] at e
          exact absurd e (by decide)
        · have hj0 : j = 0 ∧ w = 1 := by omega
          obtain ⟨rfl, rfl⟩ := hj0
          have n0 : ¬ (nI 0 = nI 1) := by decide
          exact br_f (by rw [(b1 rfl).1]; decide) (H _ _ hS (fun _ e => absurd e n0) (fun _ e => absurd e n0) (fun _ => rfl))
theorem ps_col {post : Int32 → St2 → Prop} {p : Int32} (hw : w ≤ 1) (hq : q ≤ 1) (hx : w = 1 → ¬ x ≤ 0) (hS : ps_S w q m x u)
    (H : ∀ r u', ps_S w q m x u' → (p < 0 → r = -1) → (¬ p < nI (w + q) → r = -1) → (¬ p < 0 → p < nI (w + q) → p = 1 → r = x) → (¬ p < 0 → p < nI (w + q) → ¬ p = 1 → r = 0) → post r u') : wpX_column post u p := by
  obtain ⟨pw, pc, un, ms, lo, lr, gc, a1, a2, a3, a4, a5, a6, a7, a8, a9, a10⟩ := u
  have hS' := hS
  obtain ⟨⟨rfl, rfl, rfl, b1, b2⟩, h⟩ := hS'
  by_cases h0 : p < 0
  · exact br_t h0 (H _ _ hS (fun _ => rfl) (fun _ => rfl) (fun n => absurd h0 n) (fun n => absurd h0 n))
  · refine br_f h0 ?_
    by_cases h3 : p < nI (w + q)
    · rcases pk_ix p (n := w + q) (by omega) with g | g | ⟨j, hj, rfl⟩
      · exact absurd g h0
      · exact absurd h3 (Int32.not_lt.mpr g)
      · have v : vp_in (nI j) 60 := vp_in_nI (by omega) (by decide)
        have z : (nI j).toNatClampNeg = j := nI_clamp (by omega)
        refine br_t h3 (ps_prep hw hq hx hS (fun u' hT => ?_))
        obtain ⟨pw', pc', un', ms', lo', lr', gc', c1, c2, c3, c4, c5, c6, c7, c8, c9, c10⟩ := u'
        obtain ⟨hB, hl, hQ⟩ := hT
        obtain ⟨_, q1, q2, _⟩ := id hQ
        refine ⟨v, ?_⟩
        rw [z]
        refine H _ _ ⟨hB, Or.inr ⟨hl, hQ⟩⟩ (fun n => absurd n h0) (fun n => absurd h3 n) (fun _ _ e => ?_) (fun _ _ e => ?_)
        · have ej : j = 1 := (nI_eq (b := 1) (by omega) (by decide)).mp e
          rw [ej]
          exact q2 (by omega)
        · have ej : j ≠ 1 := fun z => e (by rw [z]; rfl)
          have e0 : j = 0 := by omega
          rw [e0]
          exact q1 (by omega)
    · exact br_f h3 (H _ _ hS (fun _ => rfl) (fun _ => rfl) (fun _ n => absurd n h3) (fun _ n => absurd n h3))
theorem ps_wid {post : Int32 → St2 → Prop} (hw : w ≤ 1) (hq : q ≤ 1) (hx : w = 1 → ¬ x ≤ 0) (hS : ps_S w q m x u) (H : ∀ u', ps_S w q m x u' → post (ps_c w x) u') : wpX_widest post u := by
  obtain ⟨pw, pc, un, ms, lo, lr, gc, a1, a2, a3, a4, a5, a6, a7, a8, a9, a10⟩ := u
  unfold wpX_widest
  refine ps_prep hw hq hx hS (fun u' hT => ?_)
  obtain ⟨pw', pc', un', ms', lo', lr', gc', c1, c2, c3, c4, c5, c6, c7, c8, c9, c10⟩ := u'
  obtain ⟨hB, hl, hQ⟩ := hT
  have e : gc' = ps_c w x := hQ.1
  have hh := H (pw', pc', un', ms', lo', lr', gc', c1, c2, c3, c4, c5, c6, c7, c8, c9, c10) ⟨hB, Or.inr ⟨hl, hQ⟩⟩
  rw [← e] at hh
  exact hh
/-- addPiece with room -/
theorem ps_add {post : Int32 → St2 → Prop} {n : Nat} {pw un ms lo lr gc s l : Int32} {a1 a2 a3 a4 a5 a6 a7 a8 a9 a10 : Nat → Int32} (hn : n < 60) (H : post (nI (n + 1)) (pw, nI (n + 1), un, 0, 0, lr, gc, upd a1 n s, upd a2 n l, a3, a4, a5, a6, a7, a8, a9, a10)) : wpX_addPiece post (pw, nI n, un, ms, lo, lr, gc, a1, a2, a3, a4, a5, a6, a7, a8, a9, a10) s l := by
  have v : vp_in (nI n) 60 := vp_in_nI hn (by decide)
  have z : (nI n).toNatClampNeg = n := nI_clamp (by omega)
  exact br_t (nI_lt (b := 60) hn (by decide)) ⟨v, nm_r (e' := upd a1 n s) (by rw [z]) ⟨v, nm_r (e' := upd a2 n l) (by rw [z]) (nm_r (nI_1 n) H)⟩⟩
theorem ps_close {post : Int32 → St2 → Prop} (hw : w ≤ 1) (hq : q ≤ 1) (hS : ps_S w q m x u) (H : ∀ r u', (q = 0 → r = -1) → (q = 1 → r = nI (w + q + 1)) → post r u') : wpX_close post u := by
  obtain ⟨pw, pc, un, ms, lo, lr, gc, a1, a2, a3, a4, a5, a6, a7, a8, a9, a10⟩ := u
  obtain ⟨⟨rfl, rfl, rfl, b1, b2⟩, h⟩ := hS
  have cq : q = 0 ∨ q = 1 := by omega
  rcases cq with rfl | rfl
  · exact br_t rfl (H _ _ (fun _ => rfl) (fun e => absurd e (by decide)))
  · exact br_f (by decide) (ps_add (by omega) (br_t (nI_pos' (by omega)) (nm_e (H _ _ (fun e => absurd e (by decide)) (fun _ => rfl)))))
end
end
section
section
variable {w q : Nat} {m x p : Int32}
theorem ps_open {post : Int32 → St2 → Prop} {u : St2} (hw : w ≤ 1) (hq : q ≤ 1) (hS : ps_S w 0 m x u) (h0 : q = 0 → p < 0 ∨ 8 < p) (h1 : q = 1 → ¬ p < 0 ∧ ¬ 8 < p)
    (H : ∀ r u', ps_S w q m x u' → (q = 0 → r = -1) → (q = 1 → r = nI (w + 1)) → post r u') : wpX_open post u p := by
  obtain ⟨pw, pc, un, ms, lo, lr, gc, a1, a2, a3, a4, a5, a6, a7, a8, a9, a10⟩ := u
  have cq : q = 0 ∨ q = 1 := by omega
  rcases cq with rfl | rfl
  · by_cases g : p < 0
    · exact br_t g (H _ _ hS (fun _ => rfl) (fun e => absurd e (by decide)))
    · refine br_f g (br_t ((h0 rfl).resolve_left g) (H _ _ hS (fun _ => rfl) (fun e => absurd e (by decide))))
  · obtain ⟨g0, g8⟩ := h1 rfl
    obtain ⟨⟨rfl, rfl, rfl, b1, b2⟩, h⟩ := hS
    refine br_f g0 (br_f g8 (br_t (by decide) (ps_add (n := w + 0) (by omega) (br_t (nI_pos' (by omega)) (nm_r (nI_1 0) (H _ _ ⟨⟨rfl, rfl, rfl, fun e => ?_, fun _ => pk_us⟩, Or.inl ⟨rfl, rfl⟩⟩ (fun e => absurd e (by decide)) (fun _ => rfl)))))))
    subst e
    exact ⟨(pk_un (by decide)).trans (b1 rfl).1, (pk_un (by decide)).trans (b1 rfl).2⟩
theorem ps_word {post : Int32 → St2 → Prop} {lr gc : Int32} {a1 a2 a3 a4 a5 a6 a7 a8 a9 a10 : Nat → Int32} (hw : w ≤ 1) (h0 : w = 0 → p < 1 ∨ 20 < p) (h1 : w = 1 → ¬ p < 1 ∧ ¬ 20 < p)
    (H : ∀ r u', ps_S w 0 m p u' → (w = 0 → r = -1) → (w = 1 → r = 1) → post r u') : wpX_word post (m, 0, 0, 0, 0, lr, gc, a1, a2, a3, a4, a5, a6, a7, a8, a9, a10) p := by
  have cw : w = 0 ∨ w = 1 := by omega
  rcases cw with rfl | rfl
  · have hS : ps_S 0 0 m p (m, 0, 0, 0, 0, lr, gc, a1, a2, a3, a4, a5, a6, a7, a8, a9, a10) := ⟨⟨rfl, rfl, rfl, fun e => absurd e (by decide), fun e => absurd e (by decide)⟩, Or.inl ⟨rfl, rfl⟩⟩
    by_cases g : p < 1
    · exact br_t g (H _ _ hS (fun _ => rfl) (fun e => absurd e (by decide)))
    · exact br_f g (br_f (Int32.not_le.mpr ((h0 rfl).resolve_left g)) (H _ _ hS (fun _ => rfl) (fun e => absurd e (by decide))))
  · obtain ⟨g0, g8⟩ := h1 rfl
    exact br_f g0 (br_t (Int32.not_lt.mp g8) (ps_add (n := 0) (by decide) (H _ _ ⟨⟨rfl, rfl, rfl, fun _ => ⟨pk_us, pk_us⟩, fun e => absurd e (by decide)⟩, Or.inl ⟨rfl, rfl⟩⟩ (fun e => absurd e (by decide)) (fun _ => rfl))))
/-- the width as it is kept -/
def ps_m (x0 : Int32) : Int32 := if 1 ≤ x0 then (if x0 ≤ 100 then x0 else 100) else 1
theorem ps_m1 {x0 : Int32} (h : 1 ≤ x0) (g : x0 ≤ 100) : ps_m x0 = x0 := by
  unfold ps_m
  rw [if_pos h, if_pos g]
theorem ps_m2 {x0 : Int32} (h : 1 ≤ x0) (g : ¬ x0 ≤ 100) : ps_m x0 = 100 := by
  unfold ps_m
  rw [if_pos h, if_neg g]
theorem ps_m3 {x0 : Int32} (h : ¬ 1 ≤ x0) : ps_m x0 = 1 := by
  unfold ps_m
  rw [if_neg h]
theorem ps_width {post : St2 → Prop} {x0 pw pc un ms lo lr gc : Int32} {a1 a2 a3 a4 a5 a6 a7 a8 a9 a10 : Nat → Int32} (H : post (ps_m x0, pc, un, ms, 0, lr, gc, a1, a2, a3, a4, a5, a6, a7, a8, a9, a10)) : wpX_width post (pw, pc, un, ms, lo, lr, gc, a1, a2, a3, a4, a5, a6, a7, a8, a9, a10) x0 :=
  br_c (fun h => br_c (fun g => by rw [ps_m1 h g] at H; exact H) (fun g => by rw [ps_m2 h g] at H; exact H)) (fun h => by rw [ps_m3 h] at H; exact H)
theorem ps_init {post : St2 → Prop} {x0 : Int32} (H : post (ps_m x0, 0, 0, 0, 0, 0, 0, (fun _ => 0), (fun _ => 0), (fun _ => 0), (fun _ => 0), (fun _ => 0), (fun _ => 0), (fun _ => 0), (fun _ => 0), (fun _ => 0), (fun _ => 0))) : wpX_init post 10 552 (0, 0, 0, 0, 0, 0, 0) x0 :=
  ⟨by decide, by decide, by decide, by decide, by decide, by decide, by decide, by decide, by decide, by decide, by decide, by decide, by decide, by decide, by decide, by decide, by decide, by decide, by decide, by decide, ps_width H⟩
end
end
section
section
variable {post : Int32 → St0 → Prop} {cM sM cK sK w q : Nat} {m x x0 x2 x3 z0 z1 : Int32} {pw pc un ms lo lr gc : Int32} {a1 a2 a3 a4 a5 a6 a7 a8 a9 a10 : Nat → Int32}
theorem ps_250 (hp : post 1 ()) (hw : w ≤ 1) (hq : q ≤ 1) (hS : ps_S w q m x (pw, pc, un, ms, lo, lr, gc, a1, a2, a3, a4, a5, a6, a7, a8, a9, a10)) (hz : z1 = z0) : wL_lawOf_250 post cM sM (nI q) (nI (w + q)) z0 z1 cK sK pw pc un ms lo lr gc a1 a2 a3 a4 a5 a6 a7 a8 a9 a10 := by
  refine br_t hz (ps_close hw hq hS (fun r u' r0 r1 => ?_))
  obtain ⟨pw', pc', un', ms', lo', lr', gc', c1, c2, c3, c4, c5, c6, c7, c8, c9, c10⟩ := u'
  exact pk_eq q 0 (fun e => br_t (r0 e) hp) (fun e => br_t ((r1 (by omega)).trans (nI_1 _).symm) hp)
theorem ps_230 (hp : post 1 ()) (hw : w ≤ 1) (hq : q ≤ 1) (hx : w = 1 → ¬ x ≤ 0) (hS : ps_S w q m x (pw, pc, un, ms, lo, lr, gc, a1, a2, a3, a4, a5, a6, a7, a8, a9, a10)) (hz : z1 = z0) : wL_lawOf_230 post cM sM x (nI w) (nI q) (nI (w + q)) z0 z1 cK sK pw pc un ms lo lr gc a1 a2 a3 a4 a5 a6 a7 a8 a9 a10 := by
  refine br_t hz (ps_wid hw hq hx hS (fun u' hS' => ?_))
  obtain ⟨pw', pc', un', ms', lo', lr', gc', c1, c2, c3, c4, c5, c6, c7, c8, c9, c10⟩ := u'
  refine pk_eq w 0 (fun e => ps_250 hp hw hq hS' ?_) (fun e => ps_250 hp hw hq hS' ?_)
  · rw [e]
    rfl
  · rw [show w = 1 by omega]
    rfl
theorem ps_216 (hp : post 1 ()) (hw : w ≤ 1) (hq : q ≤ 1) (hx : w = 1 → ¬ x ≤ 0) (hS : ps_S w q m x (pw, pc, un, ms, lo, lr, gc, a1, a2, a3, a4, a5, a6, a7, a8, a9, a10)) (hz : z0 = -1) : wL_lawOf_216 post cM sM x (nI w) (nI q) (nI (w + q)) z0 cK sK pw pc un ms lo lr gc a1 a2 a3 a4 a5 a6 a7 a8 a9 a10 := by
  unfold wL_lawOf_216
  exact ps_230 hp hw hq hx hS hz
theorem ps_195 (hp : post 1 ()) (hw : w ≤ 1) (hq : q ≤ 1) (hx : w = 1 → ¬ x ≤ 0) (hS : ps_S w q m x (pw, pc, un, ms, lo, lr, gc, a1, a2, a3, a4, a5, a6, a7, a8, a9, a10)) (hz : z1 = z0) : wL_lawOf_195 post cM sM x x3 (nI w) (nI q) (nI (w + q)) z0 z1 cK sK pw pc un ms lo lr gc a1 a2 a3 a4 a5 a6 a7 a8 a9 a10 := by
  refine br_t hz (ps_col hw hq hx hS (fun r u' hS' d1 d2 d3 d4 => ?_))
  obtain ⟨pw', pc', un', ms', lo', lr', gc', c1, c2, c3, c4, c5, c6, c7, c8, c9, c10⟩ := u'
  exact br_c (fun h => ps_216 hp hw hq hx hS' (d1 h)) (fun h => br_c (fun h' => br_c (fun e => ps_230 hp hw hq hx hS' (d3 h h' e)) (fun e => ps_230 hp hw hq hx hS' (d4 h h' e))) (fun h' => ps_216 hp hw hq hx hS' (d2 h')))
theorem ps_181 (hp : post 1 ()) (hw : w ≤ 1) (hq : q ≤ 1) (hx : w = 1 → ¬ x ≤ 0) (hS : ps_S w q m x (pw, pc, un, ms, lo, lr, gc, a1, a2, a3, a4, a5, a6, a7, a8, a9, a10)) (h0 : m < z0 → z1 = 0) (h1 : ¬ m < z0 → z1 = 1) : wL_lawOf_181 post cM sM x x3 (nI w) (nI q) (nI (w + q)) m z0 z1 cK sK pw pc un ms lo lr gc a1 a2 a3 a4 a5 a6 a7 a8 a9 a10 :=
  br_c (fun h => ps_195 hp hw hq hx hS (h0 h)) (fun h => ps_195 hp hw hq hx hS (h1 h))
theorem ps_158_0 (hp : post 1 ()) (hw : w ≤ 1) (hq : q ≤ 1) (hx : w = 1 → ¬ x ≤ 0) (hS : ps_S w q m x (pw, pc, un, ms, lo, lr, gc, a1, a2, a3, a4, a5, a6, a7, a8, a9, a10)) (hn : ¬ (q = 1 ∧ x3 = nI w)) : wL_lawOf_158 post cM sM x x3 (nI w) (nI q) (nI (w + q)) m 0 cK sK pw pc un ms lo lr gc a1 a2 a3 a4 a5 a6 a7 a8 a9 a10 := by
  unfold wL_lawOf_158
  refine ps_flat hw hq hx hS (fun r u' hS' r0 r1 r2 => ?_)
  obtain ⟨pw', pc', un', ms', lo', lr', gc', c1, c2, c3, c4, c5, c6, c7, c8, c9, c10⟩ := u'
  exact br_t rfl (ps_195 hp hw hq hx hS' (r2 hn))
theorem ps_158_1 (hp : post 1 ()) (hw : w ≤ 1) (hq : q ≤ 1) (hx : w = 1 → ¬ x ≤ 0) (hS : ps_S w q m x (pw, pc, un, ms, lo, lr, gc, a1, a2, a3, a4, a5, a6, a7, a8, a9, a10)) (hn : q = 1) (h3 : x3 = nI w) : wL_lawOf_158 post cM sM x x3 (nI w) (nI q) (nI (w + q)) m 1 cK sK pw pc un ms lo lr gc a1 a2 a3 a4 a5 a6 a7 a8 a9 a10 := by
  unfold wL_lawOf_158
  refine ps_flat hw hq hx hS (fun r u' hS' r0 r1 r2 => ?_)
  obtain ⟨pw', pc', un', ms', lo', lr', gc', c1, c2, c3, c4, c5, c6, c7, c8, c9, c10⟩ := u'
  have r0' := r0 hn h3
  have r1' := r1 hn h3
  refine br_f (by decide) (pk_eq w 0 (fun e => ?_) (fun e => ?_))
  · have ec : ps_c w x = 0 := by
      rw [e]
      rfl
    rw [ec] at r0' r1'
    exact ps_181 hp hw hq hx hS' r0' r1'
  · have ec : ps_c w x = x := by
      rw [show w = 1 by omega]
      rfl
    rw [ec] at r0' r1'
    exact ps_181 hp hw hq hx hS' r0' r1'
theorem ps_157 (hp : post 1 ()) (hw : w ≤ 1) (hq : q ≤ 1) (hx : w = 1 → ¬ x ≤ 0) (hS : ps_S w q m x (pw, pc, un, ms, lo, lr, gc, a1, a2, a3, a4, a5, a6, a7, a8, a9, a10)) (hn : ¬ (q = 1 ∧ x3 = nI w)) : wL_lawOf_157 post cM sM x x3 (nI w) (nI q) (nI (w + q)) m cK sK pw pc un ms lo lr gc a1 a2 a3 a4 a5 a6 a7 a8 a9 a10 := by
  unfold wL_lawOf_157
  exact ps_158_0 hp hw hq hx hS hn
theorem ps_138 (hp : post 1 ()) (hw : w ≤ 1) (hq : q ≤ 1) (hx : w = 1 → ¬ x ≤ 0) (hS : ps_S w q m x (pw, pc, un, ms, lo, lr, gc, a1, a2, a3, a4, a5, a6, a7, a8, a9, a10)) : wL_lawOf_138 post cM sM x x3 (nI w) (nI q) (nI (w + q)) m cK sK pw pc un ms lo lr gc a1 a2 a3 a4 a5 a6 a7 a8 a9 a10 := by
  refine pk_eq q 0 (fun e => ps_157 hp hw hq hx hS (fun h => absurd h.1 (by omega))) (fun e => ?_)
  have e1 : q = 1 := by omega
  have ew : nI (w + q) - 1 = nI w := by
    rw [e1]
    exact nI_pred w
  exact br_c (fun h => ps_158_1 hp hw hq hx hS e1 (h.trans ew)) (fun h => ps_157 hp hw hq hx hS (fun g => h (g.2.trans ew.symm)))
theorem ps_114 (hp : post 1 ()) (hw : w ≤ 1) (hq : q ≤ 1) (hx : w = 1 → ¬ x ≤ 0) (hS : ps_S w q (ps_m x0) x (pw, pc, un, ms, lo, lr, gc, a1, a2, a3, a4, a5, a6, a7, a8, a9, a10)) (h0 : z0 = nI q) (h1 : z1 = nI w) : wL_lawOf_114 post cM sM x0 x x3 (nI w) (nI q) z0 z1 cK sK pw pc un ms lo lr gc a1 a2 a3 a4 a5 a6 a7 a8 a9 a10 := by
  refine nm_r (e' := nI (w + q)) (by rw [h0, h1, nI_add]) (br_c (fun h => br_c (fun g => ?_) (fun g => ?_)) (fun h => ?_))
  · rw [ps_m1 h g] at hS
    exact ps_138 hp hw hq hx hS
  · rw [ps_m2 h g] at hS
    exact ps_138 hp hw hq hx hS
  · rw [ps_m3 h] at hS
    exact ps_138 hp hw hq hx hS
theorem ps_104 (hp : post 1 ()) (hw : w ≤ 1) (hq : q ≤ 1) (hx : w = 1 → ¬ x ≤ 0) (hS : ps_S w q (ps_m x0) x (pw, pc, un, ms, lo, lr, gc, a1, a2, a3, a4, a5, a6, a7, a8, a9, a10)) (h1 : z0 = nI w) : wL_lawOf_104 post cM sM x0 x x3 (nI w) (nI q) z0 cK sK pw pc un ms lo lr gc a1 a2 a3 a4 a5 a6 a7 a8 a9 a10 :=
  pk_eq q 0 (fun e => ps_114 hp hw hq hx hS (by rw [e]; rfl) h1) (fun e => ps_114 hp hw hq hx hS (by rw [show q = 1 by omega]; rfl) h1)
theorem ps_89 (hp : post 1 ()) (hw : w ≤ 1) (hq : q ≤ 1) (hx : w = 1 → ¬ x ≤ 0) (hS : ps_S w q (ps_m x0) x (pw, pc, un, ms, lo, lr, gc, a1, a2, a3, a4, a5, a6, a7, a8, a9, a10)) (hz : z1 = z0) : wL_lawOf_89 post cM sM x0 x x3 (nI w) (nI q) z0 z1 cK sK pw pc un ms lo lr gc a1 a2 a3 a4 a5 a6 a7 a8 a9 a10 :=
  br_t hz (pk_eq w 0 (fun e => ps_104 hp hw hq hx hS (by rw [e]; rfl)) (fun e => ps_104 hp hw hq hx hS (by rw [show w = 1 by omega]; rfl)))
theorem ps_61 (hp : post 1 ()) (hw : w ≤ 1) (hq : q ≤ 1) (hx : w = 1 → ¬ x ≤ 0) (hS : ps_S w 0 (ps_m x0) x (pw, pc, un, ms, lo, lr, gc, a1, a2, a3, a4, a5, a6, a7, a8, a9, a10)) (g0 : q = 0 → x2 < 0 ∨ 8 < x2) (g1 : q = 1 → ¬ x2 < 0 ∧ ¬ 8 < x2) (hz : z1 = z0) : wL_lawOf_61 post cM sM x0 x x2 x3 (nI w) (nI q) z0 z1 cK sK pw pc un ms lo lr gc a1 a2 a3 a4 a5 a6 a7 a8 a9 a10 := by
  refine br_t hz (ps_open hw hq hS g0 g1 (fun r u' hS' r0 r1 => ?_))
  obtain ⟨pw', pc', un', ms', lo', lr', gc', c1, c2, c3, c4, c5, c6, c7, c8, c9, c10⟩ := u'
  refine pk_eq q 0 (fun e => ps_89 hp hw hq hx hS' (r0 e)) (fun e => pk_eq w 0 (fun e' => ps_89 hp hw hq hx hS' ?_) (fun e' => ps_89 hp hw hq hx hS' ?_))
  · rw [r1 (by omega), e']
    rfl
  · rw [r1 (by omega), show w = 1 by omega]
    rfl
theorem ps_43 (hp : post 1 ()) (hw : w ≤ 1) (hq : q ≤ 1) (k0 : w = 0 → x < 1 ∨ 20 < x) (k1 : w = 1 → ¬ x < 1 ∧ ¬ 20 < x) (g0 : q = 0 → x2 < 0 ∨ 8 < x2) (g1 : q = 1 → ¬ x2 < 0 ∧ ¬ 8 < x2) : wL_lawOf_43 post cM sM x0 x x2 x3 (nI w) (nI q) cK sK (ps_m x0) 0 0 0 0 lr gc a1 a2 a3 a4 a5 a6 a7 a8 a9 a10 := by
  have hx : w = 1 → ¬ x ≤ 0 := fun e h => (k1 e).1 (Int32.lt_of_le_of_lt h (by decide))
  unfold wL_lawOf_43
  refine ps_word hw k0 k1 (fun r u' hS' r0 r1 => ?_)
  obtain ⟨pw', pc', un', ms', lo', lr', gc', c1, c2, c3, c4, c5, c6, c7, c8, c9, c10⟩ := u'
  exact pk_eq w 0 (fun e => ps_61 hp hw hq hx hS' g0 g1 (r0 e)) (fun e => ps_61 hp hw hq hx hS' g0 g1 (r1 (by omega)))
theorem ps_42 (hp : post 1 ()) (hw : w ≤ 1) (k0 : w = 0 → x < 1 ∨ 20 < x) (k1 : w = 1 → ¬ x < 1 ∧ ¬ 20 < x) (g0 : x2 < 0 ∨ 8 < x2) : wL_lawOf_42 post cM sM x0 x x2 x3 (nI w) cK sK (ps_m x0) 0 0 0 0 lr gc a1 a2 a3 a4 a5 a6 a7 a8 a9 a10 := by
  unfold wL_lawOf_42
  exact ps_43 (q := 0) hp hw (by decide) k0 k1 (fun _ => g0) (fun e => absurd e (by decide))
theorem ps_26 (hp : post 1 ()) (hw : w ≤ 1) (k0 : w = 0 → x < 1 ∨ 20 < x) (k1 : w = 1 → ¬ x < 1 ∧ ¬ 20 < x) : wL_lawOf_26 post cM sM x0 x x2 x3 (nI w) cK sK (ps_m x0) 0 0 0 0 lr gc a1 a2 a3 a4 a5 a6 a7 a8 a9 a10 :=
  br_c (fun h => ps_42 hp hw k0 k1 (Or.inl h)) (fun h => br_c (fun g => ps_42 hp hw k0 k1 (Or.inr g)) (fun g => ps_43 (q := 1) hp hw (by decide) k0 k1 (fun e => absurd e (by decide)) (fun _ => ⟨h, g⟩)))
theorem ps_25 (hp : post 1 ()) (k0 : x < 1 ∨ 20 < x) : wL_lawOf_25 post cM sM x0 x x2 x3 cK sK (ps_m x0) 0 0 0 0 lr gc a1 a2 a3 a4 a5 a6 a7 a8 a9 a10 := by
  unfold wL_lawOf_25
  exact ps_26 (w := 0) hp (by decide) (fun _ => k0) (fun e => absurd e (by decide))
theorem ps_law (hp : post 1 ()) : wpL_lawOf post 11 569 () x0 x x2 x3 :=
  ⟨by decide, by decide, 10, 552, by decide, by decide, ps_init (br_c (fun h => ps_25 hp (Or.inl h)) (fun h => br_c (fun g => ps_25 hp (Or.inr g)) (fun g => ps_26 (w := 1) hp (by decide) (fun e => absurd e (by decide)) (fun _ => ⟨h, g⟩))))⟩
end
theorem ps_cell {post : Int32 → Prop} {L : Nat} {xs : Nat → Int32} {p : Int32} (k : Nat) (hL : L ≤ 4) (hk : k < 4) (hp : p = nI k) (H : ∀ r, post r) : wpL_cellAt post L xs () p :=
  pk_le L k (fun _ => H 0) (fun h => ⟨pk_in k L h hp, H _⟩) rfl hp
end
section
theorem i_vc (xs : Nat → Int32) (L : Nat) (hL : L ≤ 4) : wpL_law (fun r => r = 1) L xs := by
  unfold wpL_law
  exact ps_cell 0 hL (by decide) rfl (fun r1 => ps_cell 1 hL (by decide) rfl (fun r2 => ps_cell 2 hL (by decide) rfl (fun r3 => ps_cell 3 hL (by decide) rfl (fun r4 => ⟨11, 569, by decide, by decide, ps_law rfl⟩))))
end
