section
/-- the mask of the edges e .. E-1 -/
def gp_M (e E : Nat) : Int32 := nI (2 ^ E - 2 ^ e)
theorem gp_bit0 : ∀ E, E < 7 → ∀ e, e < 7 → ∀ j, j < e → e ≤ E → (gp_M e E >>> (nI j &&& 31)) &&& 1 = 0 := by decide +kernel
theorem gp_bit1 : ∀ E, E < 7 → ∀ e, e < 7 → ∀ j, j < E → e ≤ j → ¬ (gp_M e E >>> (nI j &&& 31)) &&& 1 = 0 := by decide +kernel
theorem gp_bit (E : Nat) (hE : E < 7) (e : Nat) (he : e < 7) (j : Nat) (hj : j < 7) (h : e ≤ E) (hjE : j < E) : ((gp_M e E >>> (nI j &&& 31)) &&& 1 = 0 ↔ j < e) := by
  constructor
  · intro z
    rcases Nat.lt_or_ge j e with c | c
    · exact c
    · exact absurd z (gp_bit1 E hE e he j hjE c)
  · intro z
    exact gp_bit0 E hE e he j z h
theorem gp_rest : ∀ E, E < 7 → ∀ e, e < 7 → e < E → gp_M e E &&& (((1 : Int32) <<< (nI e &&& 31)) ^^^ (-1)) = gp_M (e + 1) E := by decide +kernel
theorem gp_short : ∀ E, E < 7 → ∀ e, e < 7 → (gp_M e E).toInt16.toInt32 = gp_M e E := by decide +kernel
theorem gp_nz : ∀ E, E < 7 → ∀ e, e < 7 → e < E → ¬ gp_M e E = 0 := by decide +kernel
theorem gp_full : ∀ E, E < 7 → ((1 : Int32) <<< (nI E &&& 31)) - 1 = gp_M 0 E := by decide +kernel
theorem gp_byte : ∀ k, k < 128 → (nI k).toInt8.toInt32 = nI k := by decide +kernel
theorem gp_end (E : Nat) : gp_M E E = 0 := by
  unfold gp_M
  rw [Nat.sub_self]
  rfl
/-- a straight edge, a loop -/
def gp_S (x y : Int32) : Prop := (x = 0 ∧ y = 1) ∨ (x = 1 ∧ y = 0)
def gp_L (x y : Int32) : Prop := (x = 0 ∧ y = 0) ∨ (x = 1 ∧ y = 1)
/-- the graph: s straight edges, behind them loops, E edges in all -/
def gp_G (a1 a2 : Nat → Int32) (s E : Nat) : Prop := s ≤ E ∧ (∀ j, j < s → gp_S (a1 j) (a2 j)) ∧ (∀ j, s ≤ j → j < E → gp_L (a1 j) (a2 j))
theorem gp_sx {x y : Int32} (h : gp_S x y) : x = 0 ∨ x = 1 := h.elim (fun z => Or.inl z.1) (fun z => Or.inr z.1)
theorem gp_sy {x y : Int32} (h : gp_S x y) : y = 0 ∨ y = 1 := h.elim (fun z => Or.inr z.2) (fun z => Or.inl z.2)
theorem gp_lx {x y : Int32} (h : gp_L x y) : x = 0 ∨ x = 1 := h.elim (fun z => Or.inl z.1) (fun z => Or.inr z.1)
theorem gp_ly {x y : Int32} (h : gp_L x y) : y = 0 ∨ y = 1 := h.elim (fun z => Or.inl z.2) (fun z => Or.inr z.2)
theorem gp_sne {x y : Int32} (h : gp_S x y) : ¬ x = y := by
  rcases h with ⟨rfl, rfl⟩ | ⟨rfl, rfl⟩
  · decide
  · decide
theorem gp_leq {x y : Int32} (h : gp_L x y) : x = y := by
  rcases h with ⟨rfl, rfl⟩ | ⟨rfl, rfl⟩
  · rfl
  · rfl
theorem gp_gx {a1 a2 : Nat → Int32} {s E j : Nat} (g : gp_G a1 a2 s E) (h : j < E) : a1 j = 0 ∨ a1 j = 1 := by
  by_cases z : j < s
  · exact gp_sx (g.2.1 j z)
  · exact gp_lx (g.2.2 j (by omega) h)
theorem gp_gy {a1 a2 : Nat → Int32} {s E j : Nat} (g : gp_G a1 a2 s E) (h : j < E) : a2 j = 0 ∨ a2 j = 1 := by
  by_cases z : j < s
  · exact gp_sy (g.2.1 j z)
  · exact gp_ly (g.2.2 j (by omega) h)
theorem gp_G0 {a1 a2 : Nat → Int32} : gp_G a1 a2 0 0 := ⟨Nat.le_refl 0, fun j h => absurd h (by omega), fun j _ h => absurd h (by omega)⟩
theorem gp_GS {a1 a2 : Nat → Int32} {s : Nat} {x y : Int32} (g : gp_G a1 a2 s s) (h : gp_S x y) : gp_G (upd a1 s x) (upd a2 s y) (s + 1) (s + 1) := by
  refine ⟨Nat.le_refl _, fun j hj => ?_, fun j h1 h2 => absurd h1 (by omega)⟩
  by_cases e : j = s
  · rw [e, pk_us, pk_us]
    exact h
  · rw [pk_un e, pk_un e]
    exact g.2.1 j (by omega)
theorem gp_GL {a1 a2 : Nat → Int32} {s E : Nat} {x y : Int32} (g : gp_G a1 a2 s E) (h : gp_L x y) : gp_G (upd a1 E x) (upd a2 E y) s (E + 1) := by
  have hs := g.1
  refine ⟨by omega, fun j hj => ?_, fun j h1 h2 => ?_⟩
  · have e : j ≠ E := by omega
    rw [pk_un e, pk_un e]
    exact g.2.1 j hj
  · by_cases e : j = E
    · rw [e, pk_us, pk_us]
      exact h
    · rw [pk_un e, pk_un e]
      exact g.2.2 j h1 (by omega)
theorem gp_pt8 {x : Int32} (h : x = 0 ∨ x = 1) : ((8 : Int32) >>> ((3 * x) &&& 31)) &&& 7 = x := by
  rcases h with rfl | rfl
  · decide
  · decide
theorem gp_pt0 {x : Int32} (h : x = 0 ∨ x = 1) : ((0 : Int32) >>> ((3 * x) &&& 31)) &&& 7 = 0 := by
  rcases h with rfl | rfl
  · decide
  · decide
theorem gp_e1 {x : Int32} (h : x = 0 ∨ x = 1) : ¬ x < 0 ∧ ¬ (2 : Int32) ≤ x ∧ x < 2 ∧ x.toInt8.toInt32 = x := by
  rcases h with rfl | rfl
  · decide
  · decide
theorem gp_zero (k : Nat) : upd (fun _ => 0) k 0 = fun _ => 0 := by
  funext j
  show (if j = k then (0 : Int32) else 0) = 0
  split
  · rfl
  · rfl
/-- what working off leaves in the table: l loops, d straight edges ahead of the last one -/
def gp_F (l : Nat) : Nat → (Nat → Int32) → (Nat → Int32)
  | 0, a => upd a (9 + l) (a (9 + l) + 1)
  | d + 1, a => gp_F l d (upd a (l + (d + 1)) (a (l + (d + 1)) + 1))
def gp_T (l s : Nat) : Nat → Int32 := gp_F l (s - 1) (fun _ => 0)
/-- the polynomial's value as valueAt adds it up -/
def gp_in (a : Nat → Int32) (y : Int32) (i : Nat) : Nat → Nat → Int32 → Int32 → Int32
  | 0, _, sm, _ => sm
  | c + 1, j, sm, q => gp_in a y i c (j + 1) (sm + a (9 * i + j) * q) (q * y)
def gp_out (a : Nat → Int32) (x y : Int32) : Nat → Nat → Int32 → Int32 → Int32
  | 0, _, sm, _ => sm
  | c + 1, i, sm, q => gp_out a x y c (i + 1) (gp_in a y i 9 0 sm q) (q * x)
def gp_val (a : Nat → Int32) (x y : Int32) : Int32 := gp_out a x y 9 0 0 1
end
section
theorem gp_v1 : ∀ s, s < 5 → ∀ l, l < 3 → 1 ≤ s → gp_val (gp_T l s) 1 1 = nI s := by decide +kernel
theorem gp_v2 : ∀ s, s < 5 → ∀ l, l < 3 → 1 ≤ s → gp_val (gp_T l s) 1 2 = (((1 : Int32) <<< (nI s &&& 31)) - 1) <<< (nI l &&& 31) := by decide +kernel
theorem gp_v3 : ∀ s, s < 5 → ∀ l, l < 3 → 1 ≤ s → gp_T l s (9 * 1 + l) = 1 := by decide +kernel
theorem gp_v4 : ∀ s, s < 5 → ∀ l, l < 3 → 1 ≤ s → s ≤ 1 → gp_T l s (9 * 0 + (l + 1)) = 0 := by decide +kernel
theorem gp_v5 : ∀ s, s < 5 → ∀ l, l < 3 → 1 < s → gp_T l s (9 * 0 + (l + 1)) = 1 := by decide +kernel
theorem gp_v6 : ∀ s, s < 5 → ∀ l, l < 3 → ∀ c, c < 7 → 1 ≤ s → l ≤ 0 → -(gp_val (gp_T l s) (1 - nI c) 0 * nI c) = nI c * (nI c - 1) := by decide +kernel
theorem gp_v7 : ∀ s, s < 5 → ∀ l, l < 3 → ∀ c, c < 7 → 1 ≤ s → 0 < l → -(gp_val (gp_T l s) (1 - nI c) 0 * nI c) = 0 := by decide +kernel
theorem gp_v8 : ∀ s, s < 5 → ∀ l, l < 3 → 1 ≤ s → l ≤ 0 → gp_val (gp_T l s) 2 0 = 2 := by decide +kernel
theorem gp_v9 : ∀ s, s < 5 → ∀ l, l < 3 → 1 ≤ s → 0 < l → gp_val (gp_T l s) 2 0 = 0 := by decide +kernel
end
section
section
variable {f0 f1 f2 f3 : Int32} {a1 a2 a3 a4 a5 a6 a7 : Nat → Int32}
theorem gp_of {post : Int32 → Prop} {u : St2} {p x v : Int32} (e : (p >>> ((3 * x) &&& 31)) &&& 7 = v) (h : post v) : wpX_pointOf post u p x := by
  obtain ⟨b0, b1, b2, b3, c1, c2, c3, c4, c5, c6, c7⟩ := u
  subst e
  exact h
theorem gp_start {post : Int32 → Prop} (H : post 8) : wpX_startPoints post (2, f1, f2, f3, a1, a2, a3, a4, a5, a6, a7) :=
  ⟨3, br_f (by decide) (nm_r (e' := 0) (by decide) (nm_r (e' := 1) (by decide) (br_f (by decide) (nm_r (e' := 8) (by decide) (nm_r (e' := 2) (by decide) (br_t (by decide) H))))))⟩
theorem gp_j30 {post : Int32 → Prop} (H : post 0) : wX_joined_30 post 8 0 1 2 f1 f2 f3 a1 a2 a3 a4 a5 a6 a7 3 0 0 :=
  br_f (by decide) (nm_r (e' := 0) (by decide) (br_f (by decide) (nm_r (e' := 0) (by decide) (nm_r (e' := 1) (by decide)
    (br_f (by decide) (nm_r (e' := 1) (by decide) (br_t rfl (nm_r (e' := 0) (by decide) (nm_r (e' := 2) (by decide) (br_t (by decide) H))))))))))
theorem gp_join {post : Int32 → Prop} {x y : Int32} (h : gp_S x y) (H : post 0) : wpX_joined post (2, f1, f2, f3, a1, a2, a3, a4, a5, a6, a7) 8 x y := by
  rcases h with ⟨rfl, rfl⟩ | ⟨rfl, rfl⟩
  · exact br_f (by decide) (br_f (by decide) ⟨3, gp_j30 H⟩)
  · exact br_t (by decide) (br_t (by decide) ⟨3, gp_j30 H⟩)
theorem gp_draw {post : Int32 → Prop} {s E e : Nat} {m : Int32} (g : gp_G a1 a2 s E) (hE : E < 7) (hm : ∀ j, j < E → ((m >>> (nI j &&& 31)) &&& 1 = 0 ↔ j < e)) (H : ∀ r, r = (if e < s ∧ e < E then 0 else 8) → post r) :
    wpX_drawnTogether post (2, nI E, f2, f3, a1, a2, a3, a4, a5, a6, a7) m 8 := by
  refine Exists.elim (pk_loop (fun n i (x : Int32) => wX_drawnTogether_5 post m 2 (nI E) f2 f3 a1 a2 a3 a4 a5 a6 a7 n x (nI i)) (fun i x => x = if e < s ∧ e < i then 0 else 8) E 0 8 (by omega) (show (8 : Int32) = if e < s ∧ e < 0 then 0 else 8 by rw [if_neg (by omega)]) ?_ ?_) (fun n hn => ⟨n, hn⟩)
  · intro n x hx
    exact pk_le E E (fun _ => H x hx) (fun z => absurd z (by omega))
  · intro n i x hi hx0 hw0
    have hx : x = if e < s ∧ e < i then 0 else 8 := hx0
    have hw : ∀ y : Int32, (y = if e < s ∧ e < i + 1 then 0 else 8) → wX_drawnTogether_5 post m 2 (nI E) f2 f3 a1 a2 a3 a4 a5 a6 a7 n y (nI (i + 1)) := hw0
    refine pk_le E i (fun z => absurd z (by omega)) (fun _ => ?_)
    refine br_c (fun hb => nm_r (nI_1 i) (hw x ?_)) (fun hb => ⟨pk_in i 8 (by omega), ?_⟩)
    · have hj := (hm i hi).mp hb
      rw [hx, if_neg (by omega), if_neg (by omega)]
    · have hj : ¬ i < e := fun z => hb ((hm i hi).mpr z)
      rw [nI_clamp (show i < 2 ^ 31 by omega)]
      have x1 := gp_gx g hi
      have x2 := gp_gy g hi
      by_cases c1 : e < s ∧ e < i
      · have hx' : x = 0 := hx.trans (if_pos c1)
        clear hx hx0
        subst hx'
        exact gp_of (gp_pt0 x1) ⟨pk_in i 8 (by omega), gp_of (gp_pt0 x2) (br_t rfl (nm_r (nI_1 i) (hw 0 (by rw [if_pos (by omega)]))))⟩
      · have hx' : x = 8 := hx.trans (if_neg c1)
        clear hx hx0
        subst hx'
        refine gp_of (gp_pt8 x1) ⟨pk_in i 8 (by omega), gp_of (gp_pt8 x2) ?_⟩
        by_cases c2 : e < s
        · have hS := g.2.1 i (by omega)
          exact br_f (gp_sne hS) (gp_join hS (nm_r (nI_1 i) (hw 0 (by rw [if_pos (by omega)]))))
        · have hL := g.2.2 i (by omega) hi
          exact br_t (gp_leq hL) (nm_r (nI_1 i) (hw 8 (by rw [if_neg (by omega)])))
theorem gp_draw0 {post : Int32 → Prop} {s E e : Nat} {m : Int32} (g : gp_G a1 a2 s E) (hE : E < 7) (hm : ∀ j, j < E → ((m >>> (nI j &&& 31)) &&& 1 = 0 ↔ j < e)) (he : e < s) (H : post 0) :
    wpX_drawnTogether post (2, nI E, f2, f3, a1, a2, a3, a4, a5, a6, a7) m 8 := by
  have hs := g.1
  refine gp_draw g hE hm (fun r hr => ?_)
  rw [hr, if_pos (by omega)]
  exact H
theorem gp_draw8 {post : Int32 → Prop} {s E e : Nat} {m : Int32} (g : gp_G a1 a2 s E) (hE : E < 7) (hm : ∀ j, j < E → ((m >>> (nI j &&& 31)) &&& 1 = 0 ↔ j < e)) (he : s ≤ e) (H : post 8) :
    wpX_drawnTogether post (2, nI E, f2, f3, a1, a2, a3, a4, a5, a6, a7) m 8 := by
  refine gp_draw g hE hm (fun r hr => ?_)
  rw [hr, if_neg (by omega)]
  exact H
theorem gp_push {post : St2 → Prop} {w : Nat} {m p x y m' x' y' : Int32} (hw : w < 12) (hm : m.toInt16.toInt32 = m') (hx : x.toInt8.toInt32 = x') (hy : y.toInt8.toInt32 = y')
    (H : post (f0, f1, f2, nI (w + 1), a1, a2, a3, upd a4 w m', upd a5 w p, upd a6 w x', upd a7 w y')) : wpX_push post (f0, f1, f2, nI w, a1, a2, a3, a4, a5, a6, a7) m p x y := by
  have hc := nI_clamp (show w < 2 ^ 31 by omega)
  subst hm hx hy
  unfold wpX_push
  dsimp only
  rw [hc]
  exact ⟨pk_in w 12 hw, nm_e ⟨pk_in w 12 hw, nm_e ⟨pk_in w 12 hw, nm_e ⟨pk_in w 12 hw, nm_e (nm_r (nI_1 w) H)⟩⟩⟩⟩
theorem gp_term {post : St2 → Prop} {p : Int32} {X Y : Nat} (hk : 9 * X + Y < 81) (H : post (f0, f1, f2, f3, a1, a2, upd a3 (9 * X + Y) (a3 (9 * X + Y) + 1), a4, a5, a6, a7)) :
    wpX_workOff post (f0, f1, f2, f3, a1, a2, a3, a4, a5, a6, a7) 0 p (nI X) (nI Y) := by
  have e : (9 : Int32) * nI X + nI Y = nI (9 * X + Y) := by
    rw [show (9 : Int32) = nI 9 from rfl, pk_mul, nI_add]
  unfold wpX_workOff
  dsimp only
  rw [e, nI_clamp (show 9 * X + Y < 2 ^ 31 by omega)]
  exact br_t rfl ⟨pk_in _ 81 hk, pk_in _ 81 hk, nm_e H⟩
theorem gp_scan {post : St2 → Prop} {E e : Nat} {p x y : Int32} (hE : E < 7) (he : e < E) (H : ∀ n, wX_workOff_24 post (gp_M e E) p x y f0 f1 f2 f3 a1 a2 a3 a4 a5 a6 a7 (n + 1) (nI e)) :
    wpX_workOff post (f0, f1, f2, f3, a1, a2, a3, a4, a5, a6, a7) (gp_M e E) p x y := by
  refine br_f (gp_nz E hE e (by omega) he) ?_
  refine Exists.elim (pk_loop (σ := Unit) (fun n i _ => wX_workOff_24 post (gp_M e E) p x y f0 f1 f2 f3 a1 a2 a3 a4 a5 a6 a7 n (nI i)) (fun _ _ => True) e 0 () (by omega) trivial (fun n _ _ => H n) ?_) (fun n hn => ⟨n, hn⟩)
  intro n i _ hi _ hw
  exact br_t ((gp_bit E hE e (by omega) i (by omega) (by omega) (by omega)).mpr hi) (nm_r (nI_1 i) (hw () trivial))
theorem gp_off0 {post : St2 → Prop} {s E e w X Y : Nat} (g : gp_G a1 a2 s E) (hE : E < 7) (he : e < E) (hw : w < 12) (hX : X < 20) (hY : Y < 20)
    (H : post (2, nI E, f2, nI (w + 1), a1, a2, a3, upd a4 w (gp_M (e + 1) E), upd a5 w 0, upd a6 w (nI X), upd a7 w (nI (Y + 1)))) :
    wpX_workOff post (2, nI E, f2, nI w, a1, a2, a3, a4, a5, a6, a7) (gp_M e E) 0 (nI X) (nI Y) := by
  refine gp_scan hE he (fun n => ?_)
  have hb : ¬ (gp_M e E >>> (nI e &&& 31)) &&& 1 = 0 := fun z => absurd ((gp_bit E hE e (by omega) e (by omega) (by omega) he).mp z) (by omega)
  refine br_f hb (nm_r (gp_rest E hE e (by omega) he) ⟨pk_in e 8 (by omega), ?_⟩)
  rw [nI_clamp (show e < 2 ^ 31 by omega)]
  refine gp_of (gp_pt0 (gp_gx g he)) ⟨pk_in e 8 (by omega), gp_of (gp_pt0 (gp_gy g he)) (br_t rfl ?_)⟩
  exact gp_push hw (gp_short E hE (e + 1) (by omega)) (gp_byte X (by omega)) (by rw [nI_1]; exact gp_byte (Y + 1) (by omega)) H
theorem gp_off8 {post : St2 → Prop} {s E e w X Y : Nat} (g : gp_G a1 a2 s E) (hE : E < 7) (he : e + 1 < s) (hw : w < 11) (hX : X < 20) (hY : Y < 20)
    (H : post (2, nI E, f2, nI (w + 1 + 1), a1, a2, a3, upd (upd a4 w (gp_M (e + 1) E)) (w + 1) (gp_M (e + 1) E), upd (upd a5 w 8) (w + 1) 0, upd (upd a6 w (nI X)) (w + 1) (nI X), upd (upd a7 w (nI Y)) (w + 1) (nI Y))) :
    wpX_workOff post (2, nI E, f2, nI w, a1, a2, a3, a4, a5, a6, a7) (gp_M e E) 8 (nI X) (nI Y) := by
  have hs := g.1
  have hS := g.2.1 e (by omega)
  refine gp_scan hE (by omega) (fun n => ?_)
  have hb : ¬ (gp_M e E >>> (nI e &&& 31)) &&& 1 = 0 := fun z => absurd ((gp_bit E hE e (by omega) e (by omega) (by omega) (by omega)).mp z) (by omega)
  refine br_f hb (nm_r (gp_rest E hE e (by omega) (by omega)) ⟨pk_in e 8 (by omega), ?_⟩)
  rw [nI_clamp (show e < 2 ^ 31 by omega)]
  refine gp_of (gp_pt8 (gp_sx hS)) ⟨pk_in e 8 (by omega), gp_of (gp_pt8 (gp_sy hS)) (br_f (gp_sne hS) (gp_join hS ?_))⟩
  refine gp_draw0 (e := e + 1) g hE (fun j hj => gp_bit E hE (e + 1) (by omega) j (by omega) (by omega) hj) he ?_
  refine ⟨pk_in e 8 (by omega), gp_of (gp_pt0 (gp_sx hS)) ⟨pk_in e 8 (by omega), gp_of (gp_pt0 (gp_sy hS)) (br_t rfl ?_)⟩⟩
  refine gp_push (show w < 12 by omega) (gp_short E hE (e + 1) (by omega)) (gp_byte X (by omega)) (gp_byte Y (by omega)) ?_
  exact gp_push (show w + 1 < 12 by omega) (gp_short E hE (e + 1) (by omega)) (gp_byte X (by omega)) (gp_byte Y (by omega)) H
theorem gp_off9 {post : St2 → Prop} {s E e w X Y : Nat} (g : gp_G a1 a2 s E) (hE : E < 7) (he : e + 1 = s) (hw : w < 12) (hX : X < 20) (hY : Y < 20)
    (H : post (2, nI E, f2, nI (w + 1), a1, a2, a3, upd a4 w (gp_M (e + 1) E), upd a5 w 0, upd a6 w (nI (X + 1)), upd a7 w (nI Y))) :
    wpX_workOff post (2, nI E, f2, nI w, a1, a2, a3, a4, a5, a6, a7) (gp_M e E) 8 (nI X) (nI Y) := by
  have hs := g.1
  have hS := g.2.1 e (by omega)
  refine gp_scan hE (by omega) (fun n => ?_)
  have hb : ¬ (gp_M e E >>> (nI e &&& 31)) &&& 1 = 0 := fun z => absurd ((gp_bit E hE e (by omega) e (by omega) (by omega) (by omega)).mp z) (by omega)
  refine br_f hb (nm_r (gp_rest E hE e (by omega) (by omega)) ⟨pk_in e 8 (by omega), ?_⟩)
  rw [nI_clamp (show e < 2 ^ 31 by omega)]
  refine gp_of (gp_pt8 (gp_sx hS)) ⟨pk_in e 8 (by omega), gp_of (gp_pt8 (gp_sy hS)) (br_f (gp_sne hS) (gp_join hS ?_))⟩
  refine gp_draw8 (e := e + 1) g hE (fun j hj => gp_bit E hE (e + 1) (by omega) j (by omega) (by omega) hj) (by omega) ?_
  refine ⟨pk_in e 8 (by omega), gp_of (gp_pt8 (gp_sx hS)) ⟨pk_in e 8 (by omega), gp_of (gp_pt8 (gp_sy hS)) (br_f (gp_sne hS) ?_)⟩⟩
  exact gp_push hw (gp_short E hE (e + 1) (by omega)) (by rw [nI_1]; exact gp_byte (X + 1) (by omega)) (gp_byte Y (by omega)) H
end
end
section
section
variable {a1 a2 : Nat → Int32} {s E : Nat} {post : St2 → Prop}
theorem gp_B (g : gp_G a1 a2 s E) (hE : E < 7) {w X : Nat} (hw : w < 11) (hX : X < 9) (a3 : Nat → Int32) : ∀ (c e Y : Nat) (a4 a5 a6 a7 : Nat → Int32), e + c = E → Y + c < 9 → a4 w = gp_M e E → a5 w = 0 → a6 w = nI X → a7 w = nI Y →
    (∀ b4 b5 b6 b7 : Nat → Int32, (∀ j, j < w → b4 j = a4 j ∧ b5 j = a5 j ∧ b6 j = a6 j ∧ b7 j = a7 j) → ∃ n, wX_findPolynomial_59 post n 2 (nI E) 1 (nI w) a1 a2 (upd a3 (9 * X + (Y + c)) (a3 (9 * X + (Y + c)) + 1)) b4 b5 b6 b7) →
    ∃ n, wX_findPolynomial_59 post n 2 (nI E) 1 (nI (w + 1)) a1 a2 a3 a4 a5 a6 a7
  | 0, e, Y, a4, a5, a6, a7, he, hY, h4, h5, h6, h7, H => by
    obtain ⟨n, hn⟩ := H a4 a5 a6 a7 (fun j _ => ⟨rfl, rfl, rfl, rfl⟩)
    have h4' : a4 w = 0 := by
      rw [h4, show e = E by omega]
      exact gp_end E
    refine ⟨n + 1, br_f (nI_nle (by omega) (by omega)) (nm_r (nI_pred w) ⟨pk_in w 12 (by omega), pk_in w 12 (by omega), pk_in w 12 (by omega), pk_in w 12 (by omega), ?_⟩)⟩
    rw [nI_clamp (show w < 2 ^ 31 by omega), h4', h5, h6, h7]
    exact gp_term (by omega) hn
  | c + 1, e, Y, a4, a5, a6, a7, he, hY, h4, h5, h6, h7, H => by
    have ih := gp_B g hE hw hX a3 c (e + 1) (Y + 1) (upd a4 w (gp_M (e + 1) E)) (upd a5 w 0) (upd a6 w (nI X)) (upd a7 w (nI (Y + 1))) (by omega) (by omega) pk_us pk_us pk_us pk_us
      (fun b4 b5 b6 b7 hb => by
        rw [show Y + 1 + c = Y + (c + 1) by omega]
        refine H b4 b5 b6 b7 (fun j hj => ?_)
        have hne : j ≠ w := by omega
        have t := hb j hj
        rw [pk_un hne, pk_un hne, pk_un hne, pk_un hne] at t
        exact t)
    obtain ⟨n, hn⟩ := ih
    refine ⟨n + 1, br_f (nI_nle (by omega) (by omega)) (nm_r (nI_pred w) ⟨pk_in w 12 (by omega), pk_in w 12 (by omega), pk_in w 12 (by omega), pk_in w 12 (by omega), ?_⟩)⟩
    rw [nI_clamp (show w < 2 ^ 31 by omega), h4, h5, h6, h7]
    exact gp_off0 g hE (by omega) (by omega) (by omega) (by omega) hn
theorem gp_A (g : gp_G a1 a2 s E) (hE : E < 7) : ∀ (d e : Nat) (a3 a4 a5 a6 a7 : Nat → Int32), e + d + 1 = s → a4 0 = gp_M e E → a5 0 = 8 → a6 0 = nI 0 → a7 0 = nI 0 →
    (∀ b4 b5 b6 b7 : Nat → Int32, post (2, nI E, 1, nI 0, a1, a2, gp_F (E - s) d a3, b4, b5, b6, b7)) →
    ∃ n, wX_findPolynomial_59 post n 2 (nI E) 1 (nI 1) a1 a2 a3 a4 a5 a6 a7
  | 0, e, a3, a4, a5, a6, a7, he, h4, h5, h6, h7, H => by
    have hs := g.1
    have ih := gp_B (post := post) g hE (w := 0) (X := 0 + 1) (by omega) (by omega) a3 (E - s) (e + 1) 0 (upd a4 0 (gp_M (e + 1) E)) (upd a5 0 0) (upd a6 0 (nI (0 + 1))) (upd a7 0 (nI 0)) (by omega) (by omega) pk_us pk_us pk_us pk_us
      (fun b4 b5 b6 b7 _ => by
        have t : post (2, nI E, 1, nI 0, a1, a2, upd a3 (9 + (E - s)) (a3 (9 + (E - s)) + 1), b4, b5, b6, b7) := H b4 b5 b6 b7
        rw [show 9 * (0 + 1) + (0 + (E - s)) = 9 + (E - s) by omega]
        exact ⟨1, br_t (by decide) t⟩)
    obtain ⟨n, hn⟩ := ih
    refine ⟨n + 1, br_f (nI_nle (n := 1) (by omega) (by omega)) (nm_r (nI_pred 0) ⟨pk_in 0 12 (by omega), pk_in 0 12 (by omega), pk_in 0 12 (by omega), pk_in 0 12 (by omega), ?_⟩)⟩
    rw [nI_clamp (show 0 < 2 ^ 31 by omega), h4, h5, h6, h7]
    exact gp_off9 g hE (by omega) (by omega) (by omega) (by omega) hn
  | d + 1, e, a3, a4, a5, a6, a7, he, h4, h5, h6, h7, H => by
    have hs := g.1
    have ih := gp_B (post := post) g hE (w := 1) (X := 0) (by omega) (by omega) a3 (E - s + (d + 1)) (e + 1) 0 (upd (upd a4 0 (gp_M (e + 1) E)) (0 + 1) (gp_M (e + 1) E)) (upd (upd a5 0 8) (0 + 1) 0) (upd (upd a6 0 (nI 0)) (0 + 1) (nI 0)) (upd (upd a7 0 (nI 0)) (0 + 1) (nI 0)) (by omega) (by omega) pk_us pk_us pk_us pk_us
      (fun b4 b5 b6 b7 hb => by
        have t := hb 0 (by omega)
        have hne : (0 : Nat) ≠ 0 + 1 := by omega
        rw [pk_un hne, pk_un hne, pk_un hne, pk_un hne, pk_us, pk_us, pk_us, pk_us] at t
        rw [show 9 * 0 + (0 + (E - s + (d + 1))) = E - s + (d + 1) by omega]
        exact gp_A g hE d (e + 1) (upd a3 (E - s + (d + 1)) (a3 (E - s + (d + 1)) + 1)) b4 b5 b6 b7 (by omega) t.1 t.2.1 t.2.2.1 t.2.2.2 (fun c4 c5 c6 c7 => H c4 c5 c6 c7))
    obtain ⟨n, hn⟩ := ih
    refine ⟨n + 1, br_f (nI_nle (n := 1) (by omega) (by omega)) (nm_r (nI_pred 0) ⟨pk_in 0 12 (by omega), pk_in 0 12 (by omega), pk_in 0 12 (by omega), pk_in 0 12 (by omega), ?_⟩)⟩
    rw [nI_clamp (show 0 < 2 ^ 31 by omega), h4, h5, h6, h7]
    exact gp_off8 g hE (by omega) (by omega) (by omega) (by omega) hn
theorem gp_find {f3 : Int32} {a4 a5 a6 a7 : Nat → Int32} (g : gp_G a1 a2 s E) (hE : E < 7) (hs : 1 ≤ s) (H : ∀ b4 b5 b6 b7 : Nat → Int32, post (2, nI E, 1, nI 0, a1, a2, gp_T (E - s) s, b4, b5, b6, b7)) :
    wpX_findPolynomial post (2, nI E, 0, f3, a1, a2, (fun _ => 0), a4, a5, a6, a7) := by
  refine br_t rfl ?_
  refine Exists.elim (pk_loop (σ := Unit) (fun n i _ => wX_findPolynomial_15 post 2 (nI E) 1 f3 n (nI i) a1 a2 (fun _ => 0) a4 a5 a6 a7) (fun _ _ => True) 81 0 () (by omega) trivial ?_ ?_) (fun n hn => ⟨n, hn⟩)
  · intro n _ _
    refine pk_le 81 81 (fun _ => gp_start ?_) (fun z => absurd z (by omega))
    refine gp_push (w := 0) (by omega) (m' := gp_M 0 E) (by rw [gp_full E hE]; exact gp_short E hE 0 (by omega)) (x' := nI 0) (by decide) (y' := nI 0) (by decide) ?_
    exact gp_A g hE (s - 1) 0 (fun _ => 0) (upd a4 0 (gp_M 0 E)) (upd a5 0 8) (upd a6 0 (nI 0)) (upd a7 0 (nI 0)) (by omega) pk_us pk_us pk_us pk_us H
  · intro n i _ hi _ hw
    exact pk_le 81 i (fun z => absurd z (by omega)) (fun _ => ⟨pk_in i 81 hi, nm_r (gp_zero _) (nm_r (nI_1 i) (hw () trivial))⟩)
theorem gp_fp1 {f0 f1 f3 : Int32} {a3 a4 a5 a6 a7 : Nat → Int32} (H : post (f0, f1, 1, f3, a1, a2, a3, a4, a5, a6, a7)) : wpX_findPolynomial post (f0, f1, 1, f3, a1, a2, a3, a4, a5, a6, a7) :=
  br_f (by decide) H
end
end
section
section
variable {f0 f1 f2 f3 : Int32} {a1 a2 a3 a4 a5 a6 a7 : Nat → Int32} {post : Int32 → St2 → Prop}
theorem gp_ix (i j : Nat) : (9 : Int32) * nI i + nI j = nI (9 * i + j) := by
  rw [show (9 : Int32) = nI 9 from rfl, pk_mul, nI_add]
theorem gp_v26 {J : Int32 → Int32 → Int32 → Prop} {x1 x2 x4 : Int32} {i : Nat} (hi : i < 9) : ∀ (c j : Nat) (sm q : Int32), j + c = 9 → J (gp_in a3 x2 i c j sm q) (x4 * x1) (nI (i + 1)) →
    wX_valueAt_26 post J x1 x2 x4 (nI i) f0 f1 f2 f3 a1 a2 a3 a4 a5 a6 a7 (c + 1) sm q (nI j)
  | 0, j, sm, q, h, H => pk_le 9 j (fun _ => nm_e (nm_r (nI_1 i) H)) (fun z => absurd z (by omega))
  | c + 1, j, sm, q, h, H => by
    refine pk_le 9 j (fun z => absurd z (by omega)) (fun _ => ?_)
    rw [gp_ix, nI_clamp (show 9 * i + j < 2 ^ 31 by omega)]
    exact ⟨pk_in (9 * i + j) 81 (by omega), nm_e (nm_e (nm_r (nI_1 j) (gp_v26 hi c (j + 1) (sm + a3 (9 * i + j) * q) (q * x2) (by omega) H)))⟩
theorem gp_v12 {x y : Int32} : ∀ (c i : Nat) (sm q : Int32), i + c = 9 → post (gp_out a3 x y c i sm q) (f0, f1, f2, f3, a1, a2, a3, a4, a5, a6, a7) →
    wX_valueAt_12 post x y f0 f1 f2 f3 a1 a2 a3 a4 a5 a6 a7 (c + 1) sm q (nI i)
  | 0, i, sm, q, h, H => pk_le 9 i (fun _ => H) (fun z => absurd z (by omega))
  | c + 1, i, sm, q, h, H => by
    refine pk_le 9 i (fun z => absurd z (by omega)) (fun _ => ?_)
    have t : wX_valueAt_12 post x y f0 f1 f2 f3 a1 a2 a3 a4 a5 a6 a7 (c + 1) (gp_in a3 y i 9 0 sm q) (q * x) (nI (i + 1)) := gp_v12 c (i + 1) (gp_in a3 y i 9 0 sm q) (q * x) (by omega) H
    exact ⟨9 + 1, gp_v26 (by omega) 9 0 sm q (by omega) t⟩
theorem gp_va {x y : Int32} (H : post (gp_val a3 x y) (f0, f1, 1, f3, a1, a2, a3, a4, a5, a6, a7)) : wpX_valueAt post (f0, f1, 1, f3, a1, a2, a3, a4, a5, a6, a7) x y := by
  unfold wpX_valueAt
  dsimp only
  refine gp_fp1 ?_
  exact ⟨9 + 1, gp_v12 9 0 0 1 (by omega) H⟩
theorem gp_va0 {x y : Int32} {s E : Nat} (g : gp_G a1 a2 s E) (hE : E < 7) (hs : 1 ≤ s) (H : ∀ b4 b5 b6 b7 : Nat → Int32, post (gp_val (gp_T (E - s) s) x y) (2, nI E, 1, nI 0, a1, a2, gp_T (E - s) s, b4, b5, b6, b7)) :
    wpX_valueAt post (2, nI E, 0, f3, a1, a2, (fun _ => 0), a4, a5, a6, a7) x y := by
  unfold wpX_valueAt
  dsimp only
  refine gp_find g hE hs (fun b4 b5 b6 b7 => ?_)
  exact ⟨9 + 1, gp_v12 9 0 0 1 (by omega) (H b4 b5 b6 b7)⟩
theorem gp_trees {s E : Nat} (g : gp_G a1 a2 s E) (hE : E < 7) (hs : 1 ≤ s) (H : ∀ b4 b5 b6 b7 : Nat → Int32, post (gp_val (gp_T (E - s) s) 1 1) (2, nI E, 1, nI 0, a1, a2, gp_T (E - s) s, b4, b5, b6, b7)) :
    wpX_trees post (2, nI E, 0, f3, a1, a2, (fun _ => 0), a4, a5, a6, a7) := by
  unfold wpX_trees
  dsimp only
  exact gp_va0 g hE hs H
theorem gp_span (H : post (gp_val a3 1 2) (f0, f1, 1, f3, a1, a2, a3, a4, a5, a6, a7)) : wpX_spanning post (f0, f1, 1, f3, a1, a2, a3, a4, a5, a6, a7) := by
  unfold wpX_spanning
  dsimp only
  exact gp_va H
theorem gp_acyc (H : post (gp_val a3 2 0) (f0, f1, 1, f3, a1, a2, a3, a4, a5, a6, a7)) : wpX_acyclic post (f0, f1, 1, f3, a1, a2, a3, a4, a5, a6, a7) := by
  unfold wpX_acyclic
  dsimp only
  exact gp_va H
theorem gp_coef {x y : Int32} (X Y : Nat) (hX : X < 9) (hY : Y < 9) (hx : x = nI X) (hy : y = nI Y) (H : post (a3 (9 * X + Y)) (f0, f1, 1, f3, a1, a2, a3, a4, a5, a6, a7)) :
    wpX_coefficient post (f0, f1, 1, f3, a1, a2, a3, a4, a5, a6, a7) x y := by
  subst hx hy
  refine pk_lt X 0 (fun z => absurd z (by omega)) (fun _ => pk_lt 8 X (fun z => absurd z (by omega)) (fun _ => pk_lt Y 0 (fun z => absurd z (by omega)) (fun _ => pk_le Y 8 (fun _ => gp_fp1 ?_) (fun z => absurd z (by omega)))))
  dsimp only
  rw [gp_ix, nI_clamp (show 9 * X + Y < 2 ^ 31 by omega)]
  exact ⟨pk_in (9 * X + Y) 81 (by omega), H⟩
theorem gp_parts {Q : Int32 → Prop} {s E : Nat} (g : gp_G a1 a2 s E) (hE : E < 7) (hs : 1 ≤ s) (H : Q 1) : wpX_parts Q (2, nI E, f2, f3, a1, a2, a3, a4, a5, a6, a7) := by
  unfold wpX_parts
  dsimp only
  refine gp_start (gp_draw0 (e := 0) g hE (fun j hj => ?_) hs ⟨3, ?_⟩)
  · rw [gp_full E hE]
    exact gp_bit E hE 0 (by omega) j (by omega) (by omega) hj
  · exact br_f (by decide) (br_t (by decide) (nm_r (e' := 1) (by decide) (nm_r (e' := 1) (by decide) (br_f (by decide) (br_f (by decide) (nm_r (e' := 2) (by decide) (br_t (by decide) H)))))))
theorem gp_col {s E c : Nat} (g : gp_G a1 a2 s E) (hE : E < 7) (hs : 1 ≤ s) (hc : c < 7) (H : post (-(gp_val a3 (1 - nI c) 0 * nI c)) (2, nI E, 1, f3, a1, a2, a3, a4, a5, a6, a7)) :
    wpX_colourings post (2, nI E, 1, f3, a1, a2, a3, a4, a5, a6, a7) (nI c) := by
  refine pk_lt c 0 (fun z => absurd z (by omega)) (fun _ => pk_le c 6 (fun _ => gp_parts g hE hs (gp_va ?_)) (fun z => absurd z (by omega)))
  exact ⟨2, br_f (by decide) (nm_e (nm_r (e' := 1) (by decide) (br_t (by decide) (br_f (by decide) H))))⟩
theorem gp_add {k : Nat} {p q : Int32} (hk : k < 8) (hp : p = 0 ∨ p = 1) (hq : q = 0 ∨ q = 1) (H : post (nI (k + 1)) (2, nI (k + 1), 0, f3, upd a1 k p, upd a2 k q, a3, a4, a5, a6, a7)) :
    wpX_add post (2, nI k, f2, f3, a1, a2, a3, a4, a5, a6, a7) p q := by
  obtain ⟨p1, p2, _, p4⟩ := gp_e1 hp
  obtain ⟨q1, _, q3, q4⟩ := gp_e1 hq
  have hc := nI_clamp (show k < 2 ^ 31 by omega)
  refine pk_lt k 8 (fun _ => br_f p1 (br_f p2 (br_f q1 (br_t q3 ⟨pk_in k 8 hk, nm_r (e' := upd a1 k p) ?_ ⟨pk_in k 8 hk, nm_r (e' := upd a2 k q) ?_ (nm_r (nI_1 k) H)⟩⟩)))) (fun z => absurd z (by omega))
  · rw [hc, p4]
  · rw [hc, q4]
end
end
section
section
variable {post : Int32 → St0 → Prop} {mc ms kc ks : Nat} {f3 : Int32} {a1 a2 a4 a5 a6 a7 : Nat → Int32} {s l c : Nat}
theorem gp_247 (H : post 1 ()) (hs : 1 ≤ s) (hs4 : s < 5) (hl : l < 3) {z0 z1 f0 f1 : Int32} (hz : z1 = z0) :
    wL_lawOf_247 post mc ms (nI l) z0 z1 kc ks f0 f1 1 f3 a1 a2 (gp_T l s) a4 a5 a6 a7 := by
  refine br_t hz (gp_acyc ?_)
  exact pk_le l 0 (fun z => br_t (gp_v8 s hs4 l hl hs z) H) (fun z => br_t (gp_v9 s hs4 l hl hs z) H)
theorem gp_219 (H : post 1 ()) (hs : 1 ≤ s) (hs4 : s < 5) (hl : l < 3) (hc : c < 7) (g : gp_G a1 a2 s (s + l)) {z0 z1 : Int32} (hz : z1 = z0) :
    wL_lawOf_219 post mc ms (nI l) (nI c) z0 z1 kc ks 2 (nI (s + l)) 1 f3 a1 a2 (gp_T l s) a4 a5 a6 a7 := by
  refine br_t hz (gp_col g (by omega) hs hc ?_)
  exact pk_le l 0 (fun z => gp_247 H hs hs4 hl (gp_v6 s hs4 l hl c hc hs z)) (fun z => gp_247 H hs hs4 hl (gp_v7 s hs4 l hl c hc hs z))
theorem gp_155 (H : post 1 ()) (hs : 1 ≤ s) (hs4 : s < 5) (hl : l < 3) (hc : c < 7) (g : gp_G a1 a2 s (s + l)) :
    wL_lawOf_155 post mc ms (nI s) (nI l) (nI c) kc ks 2 (nI (s + l)) 0 f3 a1 a2 (fun _ => 0) a4 a5 a6 a7 := by
  unfold wL_lawOf_155
  refine gp_trees g (by omega) hs (fun b4 b5 b6 b7 => ?_)
  rw [show s + l - s = l by omega]
  refine br_t (gp_v1 s hs4 l hl hs) (gp_span ?_)
  refine br_t (gp_v2 s hs4 l hl hs) (gp_coef 1 l (by omega) (by omega) rfl rfl ?_)
  refine br_t (gp_v3 s hs4 l hl hs) (gp_coef 0 (l + 1) (by omega) (by omega) rfl (nI_1 l) ?_)
  exact pk_le s 1 (fun z => gp_219 H hs hs4 hl hc g (gp_v4 s hs4 l hl hs z)) (fun z => gp_219 H hs hs4 hl hc g (gp_v5 s hs4 l hl z))
theorem gp_133 (H : post 1 ()) (hs : 1 ≤ s) (hs4 : s < 5) (hl : l < 3) (hc : c < 7) (k : Nat) (hk : k = s + min l 1) (g : gp_G a1 a2 s k) :
    wL_lawOf_133 post mc ms (nI s) (nI l) (nI c) kc ks 2 (nI k) 0 f3 a1 a2 (fun _ => 0) a4 a5 a6 a7 := by
  refine pk_le l 1 (fun z => ?_) (fun z => ?_)
  · have e : k = s + l := by omega
    rw [e] at g ⊢
    exact gp_155 H hs hs4 hl hc g
  · refine gp_add (by omega) (Or.inl rfl) (Or.inl rfl) ?_
    have g' := gp_GL g (x := 0) (y := 0) (Or.inl ⟨rfl, rfl⟩)
    have e : k + 1 = s + l := by omega
    refine br_t (show nI (k + 1) = nI s + 2 by rw [show (2 : Int32) = nI 2 from rfl, nI_add, show s + 2 = k + 1 by omega]) ?_
    rw [e] at g' ⊢
    exact gp_155 H hs hs4 hl hc g'
theorem gp_112 (H : post 1 ()) (hs : 1 ≤ s) (hs4 : s < 5) (hl : l < 3) (hc : c < 7) (k : Nat) (hk : k = s) (g : gp_G a1 a2 k k) :
    wL_lawOf_112 post mc ms (nI s) (nI l) (nI c) kc ks 2 (nI k) 0 f3 a1 a2 (fun _ => 0) a4 a5 a6 a7 := by
  subst hk
  refine pk_le l 0 (fun z => gp_133 H hs hs4 hl hc k (by omega) g) (fun z => ?_)
  refine gp_add (by omega) (Or.inr rfl) (Or.inr rfl) ?_
  exact br_t (show nI (k + 1) = nI k + 1 from (nI_1 k).symm) (gp_133 H hs hs4 hl hc (k + 1) (by omega) (gp_GL g (Or.inr ⟨rfl, rfl⟩)))
theorem gp_93 (H : post 1 ()) (hs : 1 ≤ s) (hs4 : s < 5) (hl : l < 3) (hc : c < 7) (k : Nat) (hk : k = min s 3) (g : gp_G a1 a2 k k) :
    wL_lawOf_93 post mc ms (nI s) (nI l) (nI c) kc ks 2 (nI k) 0 f3 a1 a2 (fun _ => 0) a4 a5 a6 a7 := by
  refine pk_le s 3 (fun z => gp_112 H hs hs4 hl hc k (by omega) g) (fun z => ?_)
  refine gp_add (by omega) (Or.inl rfl) (Or.inr rfl) ?_
  exact br_t (show nI (k + 1) = 4 by rw [show k + 1 = 4 by omega]; rfl) (gp_112 H hs hs4 hl hc (k + 1) (by omega) (gp_GS g (Or.inl ⟨rfl, rfl⟩)))
theorem gp_74 (H : post 1 ()) (hs : 1 ≤ s) (hs4 : s < 5) (hl : l < 3) (hc : c < 7) (k : Nat) (hk : k = min s 2) (g : gp_G a1 a2 k k) :
    wL_lawOf_74 post mc ms (nI s) (nI l) (nI c) kc ks 2 (nI k) 0 f3 a1 a2 (fun _ => 0) a4 a5 a6 a7 := by
  refine pk_le s 2 (fun z => gp_93 H hs hs4 hl hc k (by omega) g) (fun z => ?_)
  refine gp_add (by omega) (Or.inr rfl) (Or.inl rfl) ?_
  exact br_t (show nI (k + 1) = 3 by rw [show k + 1 = 3 by omega]; rfl) (gp_93 H hs hs4 hl hc (k + 1) (by omega) (gp_GS g (Or.inr ⟨rfl, rfl⟩)))
end
theorem gp_turn : ∀ t, t < 2 → gp_S (nI t) (1 - nI t)
  | 0, _ => Or.inl ⟨rfl, by decide⟩
  | 1, _ => Or.inr ⟨rfl, by decide⟩
  | t + 2, h => absurd h (by omega)
theorem gp_rem3 (x : Int32) : ∃ l, l < 3 ∧ (x &&& 255) - (x &&& 255) / 3 * 3 = nI l := by
  obtain ⟨j, hj, e⟩ := pk_andE x (m := 255) 8 (by decide)
  rw [e]
  exact ⟨j % 3, Nat.mod_lt _ (by omega), pk_rem (d := 3) (by omega) (by omega) (by omega)⟩
theorem gp_rem7 (x : Int32) : ∃ l, l < 7 ∧ (x &&& 255) - (x &&& 255) / 7 * 7 = nI l := by
  obtain ⟨j, hj, e⟩ := pk_andE x (m := 255) 8 (by decide)
  rw [e]
  exact ⟨j % 7, Nat.mod_lt _ (by omega), pk_rem (d := 7) (by omega) (by omega) (by omega)⟩
theorem gp_lawOf {post : Int32 → St0 → Prop} (p0 p1 p2 p3 : Int32) (H : post 1 ()) : wpL_lawOf post 78 1232 () p0 p1 p2 p3 := by
  obtain ⟨j, hj, ej⟩ := pk_andE p0 (m := 3) 2 (by decide)
  obtain ⟨l, hl, el⟩ := gp_rem3 p1
  obtain ⟨c, hc, ec⟩ := gp_rem7 p2
  obtain ⟨t, ht, et⟩ := pk_andE p3 (m := 1) 1 (by decide)
  have e4 : (1 : Int32) + (p0 &&& 3) = nI (1 + j) := by
    rw [ej, show (1 : Int32) = nI 1 from rfl, nI_add]
  have hS := gp_turn t (by omega)
  refine nm_r e4 ⟨by decide, nm_r el ⟨by decide, nm_r ec ⟨by decide, by decide, 77, 1221, by decide, by decide, ?_⟩⟩⟩
  refine ⟨by decide, by decide, by decide, by decide, by decide, by decide, by decide, by decide, by decide, by decide, by decide, by decide, by decide, by decide, br_t (by decide) (br_t (by decide) ?_)⟩
  refine gp_add (k := 0) (by omega) (Or.inl rfl) (Or.inr rfl) (br_t rfl ?_)
  have g1 := gp_GS (gp_G0 (a1 := fun _ => 0) (a2 := fun _ => 0)) (x := 0) (y := 1) (Or.inl ⟨rfl, rfl⟩)
  refine pk_le (1 + j) 1 (fun z => gp_74 H (by omega) (by omega) hl hc 1 (by omega) g1) (fun z => ?_)
  rw [et]
  exact gp_add (k := 1) (by omega) (gp_sx hS) (gp_sy hS) (br_t rfl (gp_74 H (by omega) (by omega) hl hc 2 (by omega) (gp_GS g1 hS)))
theorem gp_cell {post : Int32 → Prop} {L : Nat} {xs : Nat → Int32} {x : Int32} (k : Nat) (hL : L ≤ 4) (hk : k < 4) (hx : x = nI k) (H : ∀ v, post v) : wpL_cellAt post L xs () x := by
  subst hx
  exact pk_le L k (fun _ => H _) (fun z => ⟨pk_in k L z, H _⟩)
end
section
theorem i_vc (xs : Nat → Int32) (L : Nat) (hL : L ≤ 4) : wpL_law (fun r => r = 1) L xs := by
  unfold wpL_law
  refine gp_cell 0 hL (by omega) rfl (fun v0 => gp_cell 1 hL (by omega) rfl (fun v1 => gp_cell 2 hL (by omega) rfl (fun v2 => gp_cell 3 hL (by omega) rfl (fun v3 => ?_))))
  exact ⟨78, 1232, by decide, by decide, gp_lawOf v0 v1 v2 v3 rfl⟩
end
