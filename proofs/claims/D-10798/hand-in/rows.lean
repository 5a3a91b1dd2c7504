section
abbrev vs_bit (m : Int32) (i : Nat) : Prop := (((m.toUInt32 >>> ((nI i).toUInt32 &&& Int32.toUInt32 31)).toInt32) &&& 1) = 0
abbrev vs_m (c : Nat) : Int32 := 0 ||| ((1 : Int32) <<< (nI c &&& 31))
theorem vs_b0 : ∀ i, i < 16 → vs_bit 0 i := by decide +kernel
theorem vs_bn : ∀ c, c < 16 → ∀ i, i < 16 → i ≠ c → vs_bit (vs_m c) i := by decide +kernel
theorem vs_bc : ∀ c, c < 16 → ¬ vs_bit (vs_m c) c := by decide +kernel
theorem vs_bz : ∀ c, c < 16 → ¬ vs_m c = 0 := by decide +kernel
theorem vs_1 : ¬ (1 : Int32) = 0 := by decide
theorem vs_143 : (144 : Int32) - 1 = 143 := by decide
theorem vs_lt1 : (-1 : Int32) < 0 := by decide
theorem vs_16 (c : Nat) : (16 * 0 : Int32) + nI c = nI c := by
  rw [show (16 * 0 : Int32) = 0 from rfl, Int32.zero_add]
theorem vs_16c {c : Nat} (hc : c < 16) : ((16 * 0 : Int32) + nI c).toNatClampNeg = c := by
  rw [vs_16]
  exact nI_clamp (by omega)
theorem vs_fill {s : Nat → Int32} {i k : Nat} (hk : k = i) (h : ∀ j, j < i → s j = -1) : ∀ j, j < i + 1 → upd s k (-1) j = -1 := by
  intro j hj
  rw [hk]
  by_cases e : j = i
  · rw [e, pk_us]
  · rw [pk_un e]
    exact h j (by omega)
/-- what sum adds up: the cells of the range -/
def vs_S (g : Nat → Int32) (p q : Int32) : Nat → Int32
  | 0 => 0
  | i + 1 => if nI i < p then vs_S g p q i else if q < nI i then vs_S g p q i else vs_S g p q i + g i
theorem vs_S1 {g : Nat → Int32} {p q : Int32} {i : Nat} (h : nI i < p) : vs_S g p q (i + 1) = vs_S g p q i := if_pos h
theorem vs_S2 {g : Nat → Int32} {p q : Int32} {i : Nat} (h : ¬ nI i < p) (h2 : q < nI i) : vs_S g p q (i + 1) = vs_S g p q i := (if_neg h).trans (if_pos h2)
theorem vs_S3 {g : Nat → Int32} {p q : Int32} {i : Nat} (h : ¬ nI i < p) (h2 : ¬ q < nI i) : vs_S g p q (i + 1) = vs_S g p q i + g i := (if_neg h).trans (if_neg h2)
theorem vs_Sz {g : Nat → Int32} {p q : Int32} {i : Nat} (h : g i = 0) : vs_S g p q (i + 1) = vs_S g p q i := by
  by_cases h1 : nI i < p
  · exact vs_S1 h1
  · by_cases h2 : q < nI i
    · exact vs_S2 h1 h2
    · rw [vs_S3 h1 h2, h, Int32.add_zero]
theorem vs_S0 {g : Nat → Int32} {p q : Int32} (n : Nat) (h : ∀ i, i < n → g i = 0) : vs_S g p q n = 0 := by
  induction n with
  | zero => rfl
  | succ n ih => rw [vs_Sz (h n (by omega)), ih (fun i hi => h i (by omega))]
theorem vs_Sc {g : Nat → Int32} {p q : Int32} {c : Nat} (h : ∀ i, i ≠ c → g i = 0) (n : Nat) (hn : c < n) : vs_S g p q n = vs_S g p q (c + 1) := by
  induction n with
  | zero => exact absurd hn (by omega)
  | succ n ih =>
    by_cases e : n = c
    · rw [e]
    · rw [vs_Sz (h n e), ih (by omega)]
theorem vs_Sa {g : Nat → Int32} {p q : Int32} {c : Nat} (h : ∀ i, i ≠ c → g i = 0) (hc : c < 16) (h1 : nI c < p) : vs_S g p q 16 = 0 := by
  rw [vs_Sc h 16 hc, vs_S1 h1, vs_S0 c (fun i hi => h i (by omega))]
theorem vs_Sb {g : Nat → Int32} {p q : Int32} {c : Nat} (h : ∀ i, i ≠ c → g i = 0) (hc : c < 16) (h1 : ¬ nI c < p) (h2 : q < nI c) : vs_S g p q 16 = 0 := by
  rw [vs_Sc h 16 hc, vs_S2 h1 h2, vs_S0 c (fun i hi => h i (by omega))]
theorem vs_Sd {g : Nat → Int32} {p q : Int32} {c : Nat} (h : ∀ i, i ≠ c → g i = 0) (hc : c < 16) (h1 : ¬ nI c < p) (h2 : ¬ q < nI c) : vs_S g p q 16 = g c := by
  rw [vs_Sc h 16 hc, vs_S3 h1 h2, vs_S0 c (fun i hi => h i (by omega)), Int32.zero_add]
end
section
section
variable {fv fc cm : Int32} {a1 a2 a3 a4 a5 a6 a7 a8 a9 a10 : Nat → Int32}
theorem vs_init131 {post : St2 → Prop} {mc ms kc ks : Nat} (H : ∀ b4 : Nat → Int32, (∀ j, j < 16 → b4 j = -1) → post (fv, fc, cm, a1, a2, a3, b4, a5, a6, a7, a8, a9, a10)) :
    ∃ n, wX_init_131 post mc ms kc ks fv fc cm n 0 a1 a2 a3 a4 a5 a6 a7 a8 a9 a10 :=
  pk_loop (fun n i s => wX_init_131 post mc ms kc ks fv fc cm n (nI i) a1 a2 a3 s a5 a6 a7 a8 a9 a10) (fun i s => ∀ j, j < i → s j = -1) 16 0 a4 (by omega) (fun j hj => absurd hj (by omega))
    (fun n s h => pk_le 16 16 (fun _ => H s h) (fun z => absurd z (by omega)))
    (fun n i s hi h hw => pk_le 16 i (fun z => absurd z (by omega)) (fun _ => ⟨pk_in i 16 hi, nm_e (nm_r (nI_1 i) (hw _ (vs_fill (nI_clamp (by omega)) h)))⟩))
theorem vs_init89 {post : St2 → Prop} {mc ms kc ks : Nat} (H : ∀ b3 b4 : Nat → Int32, (∀ j, j < 16 → b4 j = -1) → post (fv, 144, cm, a1, a2, b3, b4, a5, a6, a7, a8, a9, a10)) :
    ∃ n, wX_init_89 post mc ms kc ks fv fc cm n 0 a1 a2 a3 a4 a5 a6 a7 a8 a9 a10 :=
  pk_loop (fun n i s => wX_init_89 post mc ms kc ks fv fc cm n (nI i) a1 a2 s a4 a5 a6 a7 a8 a9 a10) (fun _ _ => True) 144 0 a3 (by omega) trivial
    (fun n s _ => pk_le 144 144 (fun _ => vs_init131 (fun b4 h => H s b4 h)) (fun z => absurd z (by omega)))
    (fun n i s hi _ hw => pk_le 144 i (fun z => absurd z (by omega)) (fun _ => br_c (fun _ => ⟨pk_in i 144 hi, nm_e (nm_r (nI_1 i) (hw _ trivial))⟩) (fun _ => ⟨pk_in i 144 hi, nm_e (nm_r (nI_1 i) (hw _ trivial))⟩)))
theorem vs_init {post : St2 → Prop} {mc ms : Nat} (hc : 10 ≤ mc) (hs : 574 ≤ ms) (H : ∀ b3 b4 : Nat → Int32, (∀ j, j < 16 → b4 j = -1) → post (fv, 144, cm, (fun _ => 0), (fun _ => 0), b3, b4, (fun _ => 0), (fun _ => 0), (fun _ => 0), (fun _ => 0), (fun _ => 0), (fun _ => 0))) :
    wpX_init post mc ms (fv, fc, cm) := by
  unfold wpX_init
  exact ⟨by omega, by omega, by omega, by omega, by omega, by omega, by omega, by omega, by omega, by omega, by omega, by omega, by omega, by omega, by omega, by omega, by omega, by omega, by omega, by omega, vs_init89 H⟩
theorem vs_begin {post : Int32 → St2 → Prop} {p : Int32} (h5 : a5 0 = 0) (H : post 0 (fv, fc, cm, a1, a2, a3, a4, upd a5 0 1, upd a6 0 (vp_nar .boolean p), upd a7 0 cm, upd a8 0 0, upd a9 0 0, a10)) : wpX_begin post (fv, fc, cm, a1, a2, a3, a4, a5, a6, a7, a8, a9, a10) p := by
  unfold wpX_begin
  exact ⟨1, pk_le 6 0 (fun z => absurd z (by omega)) (fun _ => ⟨pk_in 0 6 (by omega), br_t h5 ⟨pk_in 0 6 (by omega), nm_e ⟨pk_in 0 6 (by omega), nm_e ⟨pk_in 0 6 (by omega), nm_e ⟨pk_in 0 6 (by omega), nm_e ⟨pk_in 0 6 (by omega), nm_e H⟩⟩⟩⟩⟩⟩)⟩
theorem vs_open0 {post : Int32 → Prop} (h : ¬ a5 0 = 0) (H : post 1) : wpX_isOpen post (fv, fc, cm, a1, a2, a3, a4, a5, a6, a7, a8, a9, a10) 0 :=
  pk_lt 0 0 (fun z => absurd z (by omega)) (fun _ => pk_lt 5 0 (fun z => absurd z (by omega)) (fun _ => ⟨pk_in 0 6 (by omega), br_f h H⟩))
theorem vs_openN {post : Int32 → Prop} {p : Int32} (hp : ¬ p = 0) (h : ∀ j, j ≠ 0 → a5 j = 0) (H : post 0) : wpX_isOpen post (fv, fc, cm, a1, a2, a3, a4, a5, a6, a7, a8, a9, a10) p := by
  refine br_c (fun _ => H) (fun h0 => br_c (fun _ => H) (fun h5 => ?_))
  obtain ⟨j, hj, e⟩ := nI_of2 (M := 5) (n := 5) rfl h0 (Int32.not_lt.mp h5)
  have hj0 : j ≠ 0 := fun z => hp (by rw [e, z]; rfl)
  rw [e]
  exact ⟨pk_in j 6 (by omega), br_t (by rw [nI_clamp (by omega)]; exact h j hj0) H⟩
theorem vs_cellT {post : Int32 → Prop} {c : Nat} {u : St0} (hc : c < 16) (H : post 1) : wpX_isCell post u (nI c) :=
  pk_lt c 0 (fun z => absurd z (by omega)) (fun _ => pk_lt 15 c (fun z => absurd z (by omega)) (fun _ => H))
theorem vs_cellF {post : Int32 → Prop} {p : Int32} {u : St0} (h : p < 0 ∨ 15 < p) (H : post 0) : wpX_isCell post u p :=
  br_c (fun _ => H) (fun h0 => br_c (fun _ => H) (fun h1 => absurd h (fun z => z.elim h0 h1)))
theorem vs_writeT {post : Int32 → St2 → Prop} {c : Nat} {v : Int32} (hc : c < 16) (h5 : ¬ a5 0 = 0) (H : post 0 (fv, fc, cm, a1, a2, a3, a4, a5, a6, a7, upd a8 0 (a8 0 ||| ((1 : Int32) <<< (nI c &&& 31))), a9, upd a10 c v)) : wpX_write post (fv, fc, cm, a1, a2, a3, a4, a5, a6, a7, a8, a9, a10) 0 (nI c) v := by
  unfold wpX_write
  exact vs_open0 h5 (br_f vs_1 (vs_cellT hc (br_f vs_1 ⟨pk_in c 96 (by omega) (vs_16 c), nm_r (e' := upd a10 c v) (by rw [vs_16c hc]) ⟨pk_in 0 6 (by omega), pk_in 0 6 (by omega), nm_e H⟩⟩)))
theorem vs_writeF {post : Int32 → St2 → Prop} {p0 p1 v : Int32} (hx : ¬ p0 = 0 ∨ (p1 < 0 ∨ 15 < p1)) (h50 : ¬ a5 0 = 0) (h5 : ∀ j, j ≠ 0 → a5 j = 0) (H : post (-1) (fv, fc, cm, a1, a2, a3, a4, a5, a6, a7, a8, a9, a10)) : wpX_write post (fv, fc, cm, a1, a2, a3, a4, a5, a6, a7, a8, a9, a10) p0 p1 v := by
  unfold wpX_write
  by_cases hp : p0 = 0
  · have h1 : p1 < 0 ∨ 15 < p1 := hx.resolve_left (fun z => z hp)
    rw [hp]
    exact vs_open0 h50 (br_f vs_1 (vs_cellF h1 (br_t rfl H)))
  · exact vs_openN hp h5 (br_t rfl H)
theorem vs_noteT {post : St2 → Prop} {c : Nat} (hb : ¬ vs_bit (a8 0) c) (H : post (fv, fc, cm, a1, a2, a3, a4, a5, a6, a7, a8, a9, a10)) : wpX_note post (fv, fc, cm, a1, a2, a3, a4, a5, a6, a7, a8, a9, a10) 0 (nI c) := by
  unfold wpX_note
  exact ⟨pk_in 0 6 (by omega), br_f hb H⟩
theorem vs_verN {post : Int32 → Prop} {c : Nat} {q : Int32} (hc : c < 16) (h4 : a4 c = -1) (H : post 0) : wpX_versionAt post (fv, fc, cm, a1, a2, a3, a4, a5, a6, a7, a8, a9, a10) (nI c) q := by
  unfold wpX_versionAt
  exact ⟨pk_in c 16 hc, nm_r (e' := (-1 : Int32)) (by rw [nI_clamp (by omega), h4]) ⟨1, pk_le 144 0 (fun z => absurd z (by omega)) (fun _ => br_t vs_lt1 H)⟩⟩
theorem vs_verV {post : Int32 → Prop} {c : Nat} {q : Int32} (hc : c < 16) (h4 : a4 c = 0) (h2 : ¬ q < a2 0) (H : post (a1 0)) : wpX_versionAt post (fv, fc, cm, a1, a2, a3, a4, a5, a6, a7, a8, a9, a10) (nI c) q := by
  unfold wpX_versionAt
  exact ⟨pk_in c 16 hc, nm_r (e' := (0 : Int32)) (by rw [nI_clamp (by omega), h4]) ⟨1, pk_le 144 0 (fun z => absurd z (by omega)) (fun _ => pk_lt 0 0 (fun z => absurd z (by omega)) (fun _ => ⟨pk_in 0 144 (by omega), br_f h2 ⟨pk_in 0 144 (by omega), H⟩⟩))⟩⟩
theorem vs_visT {post : Int32 → Prop} {c : Nat} (hc : c < 16) (hb : ¬ vs_bit (a8 0) c) (H : post (a10 c)) : wpX_visible post (fv, fc, cm, a1, a2, a3, a4, a5, a6, a7, a8, a9, a10) 0 (nI c) := by
  unfold wpX_visible
  exact ⟨pk_in 0 6 (by omega), br_f hb ⟨pk_in c 96 (by omega) (vs_16 c), by rw [vs_16c hc]; exact H⟩⟩
theorem vs_visF {post : Int32 → Prop} {c : Nat} (hc : c < 16) (hb : vs_bit (a8 0) c) (h4 : a4 c = -1) (H : post 0) : wpX_visible post (fv, fc, cm, a1, a2, a3, a4, a5, a6, a7, a8, a9, a10) 0 (nI c) := by
  unfold wpX_visible
  exact ⟨pk_in 0 6 (by omega), br_t hb ⟨pk_in 0 6 (by omega), vs_verN hc h4 H⟩⟩
theorem vs_readT {post : Int32 → St2 → Prop} {c : Nat} (hc : c < 16) (h5 : ¬ a5 0 = 0) (hb : ¬ vs_bit (a8 0) c) (H : post (a10 c) (fv, fc, cm, a1, a2, a3, a4, a5, a6, a7, a8, a9, a10)) : wpX_read post (fv, fc, cm, a1, a2, a3, a4, a5, a6, a7, a8, a9, a10) 0 (nI c) := by
  unfold wpX_read
  exact vs_open0 h5 (br_f vs_1 (vs_cellT hc (br_f vs_1 (vs_noteT hb (vs_visT hc hb H)))))
theorem vs_readF {post : Int32 → St2 → Prop} {p0 p1 : Int32} (hx : ¬ p0 = 0 ∨ (p1 < 0 ∨ 15 < p1)) (h50 : ¬ a5 0 = 0) (h5 : ∀ j, j ≠ 0 → a5 j = 0) (H : post 0 (fv, fc, cm, a1, a2, a3, a4, a5, a6, a7, a8, a9, a10)) : wpX_read post (fv, fc, cm, a1, a2, a3, a4, a5, a6, a7, a8, a9, a10) p0 p1 := by
  unfold wpX_read
  by_cases hp : p0 = 0
  · have h1 : p1 < 0 ∨ 15 < p1 := hx.resolve_left (fun z => z hp)
    rw [hp]
    exact vs_open0 h50 (br_f vs_1 (vs_cellF h1 (br_t rfl H)))
  · exact vs_openN hp h5 (br_t rfl H)
theorem vs_sum16 {post : Int32 → Prop} {p q : Int32} {g : Nat → Int32} (hv : ∀ i, i < 16 → ∀ ψ : Int32 → Prop, ψ (g i) → wpX_visible ψ (fv, fc, cm, a1, a2, a3, a4, a5, a6, a7, a8, a9, a10) 0 (nI i)) (H : post (vs_S g p q 16)) :
    ∃ n, wX_sum_16 post 0 p q fv fc cm a1 a2 a3 a4 a5 a6 a7 a8 a9 a10 n 0 0 := by
  refine pk_loop (σ := Unit) (fun n i _ => wX_sum_16 post 0 p q fv fc cm a1 a2 a3 a4 a5 a6 a7 a8 a9 a10 n (vs_S g p q i) (nI i)) (fun _ _ => True) 16 0 () (by omega) trivial ?_ ?_
  · intro n _ _
    exact pk_le 16 16 (fun _ => H) (fun z => absurd z (by omega))
  · intro n i _ hi _ hw
    have t : wX_sum_16 post 0 p q fv fc cm a1 a2 a3 a4 a5 a6 a7 a8 a9 a10 n (vs_S g p q (i + 1)) (nI (i + 1)) := hw () trivial
    refine pk_le 16 i (fun z => absurd z (by omega)) (fun _ => br_c (fun h1 => nm_r (nI_1 i) ?_) (fun h1 => br_c (fun h2 => nm_r (nI_1 i) ?_) (fun h2 => hv i hi _ (nm_r (vs_S3 h1 h2).symm (nm_r (nI_1 i) t)))))
    · rw [vs_S1 h1] at t
      exact t
    · rw [vs_S2 h1 h2] at t
      exact t
theorem vs_sum {post : Int32 → Prop} {p q : Int32} {g : Nat → Int32} (h5 : ¬ a5 0 = 0) (hv : ∀ i, i < 16 → ∀ ψ : Int32 → Prop, ψ (g i) → wpX_visible ψ (fv, fc, cm, a1, a2, a3, a4, a5, a6, a7, a8, a9, a10) 0 (nI i)) (H : post (vs_S g p q 16)) : wpX_sum post (fv, fc, cm, a1, a2, a3, a4, a5, a6, a7, a8, a9, a10) 0 p q := by
  unfold wpX_sum
  exact vs_open0 h5 (br_f vs_1 (vs_sum16 hv H))
theorem vs_may34 {post : Int32 → Prop} {x1 x2 : Int32} (h4 : ∀ j, j < 16 → a4 j = -1) (H : post 1) : ∃ n, wX_mayCommit_34 post x1 x2 fv fc cm a1 a2 a3 a4 a5 a6 a7 a8 a9 a10 n 0 :=
  pk_loop (σ := Unit) (fun n i _ => wX_mayCommit_34 post x1 x2 fv fc cm a1 a2 a3 a4 a5 a6 a7 a8 a9 a10 n (nI i)) (fun _ _ => True) 16 0 () (by omega) trivial
    (fun n _ _ => pk_le 16 16 (fun _ => H) (fun z => absurd z (by omega)))
    (fun n i _ hi _ hw => pk_le 16 i (fun z => absurd z (by omega)) (fun _ => ⟨pk_in i 16 hi, br_t (by rw [nI_clamp (by omega), h4 i hi]; exact vs_lt1) (br_c (fun _ => nm_r (nI_1 i) (hw () trivial)) (fun _ => br_t rfl (nm_r (nI_1 i) (hw () trivial))))⟩))
theorem vs_may {post : Int32 → Prop} (h6 : a6 0 = 0) (h4 : ∀ j, j < 16 → a4 j = -1) (H : post 1) : wpX_mayCommit post (fv, fc, cm, a1, a2, a3, a4, a5, a6, a7, a8, a9, a10) 0 := by
  unfold wpX_mayCommit
  exact ⟨pk_in 0 6 (by omega), br_t h6 ⟨pk_in 0 6 (by omega), nm_e (vs_may34 h4 H)⟩⟩
theorem vs_inst25 {post : St2 → Prop} {c : Nat} (hc : c < 16) (hb : ∀ i, i < 16 → i ≠ c → vs_bit (a8 0) i) (hbc : ¬ vs_bit (a8 0) c)
    (H : post (a3 0, 143, cm, upd a1 0 (a10 c), upd a2 0 cm, upd a3 0 (a4 c), upd a4 c 0, a5, a6, a7, a8, a9, a10)) :
    ∃ n, wX_install_25 post 0 cm n 0 0 144 a1 a2 a3 a4 a5 a6 a7 a8 a9 a10 := by
  refine pk_loop (σ := Int32 × Int32 × (Nat → Int32) × (Nat → Int32) × (Nat → Int32) × (Nat → Int32)) (fun n i s => wX_install_25 post 0 cm n (nI i) s.1 s.2.1 s.2.2.1 s.2.2.2.1 s.2.2.2.2.1 s.2.2.2.2.2 a5 a6 a7 a8 a9 a10)
    (fun i s => (i ≤ c → s = (0, 144, a1, a2, a3, a4)) ∧ (c < i → s = (a3 0, 143, upd a1 0 (a10 c), upd a2 0 cm, upd a3 0 (a4 c), upd a4 c 0))) 16 0 (0, 144, a1, a2, a3, a4) (by omega) ⟨fun _ => rfl, fun z => absurd z (by omega)⟩ ?_ ?_
  · intro n s h
    have e := h.2 hc
    subst e
    exact pk_le 16 16 (fun _ => H) (fun z => absurd z (by omega))
  · intro n i s hi h hw
    rcases Nat.lt_trichotomy i c with hlt | heq | hgt
    · have e := h.1 (by omega)
      subst e
      exact pk_le 16 i (fun z => absurd z (by omega)) (fun _ => ⟨pk_in 0 6 (by omega), br_t (hb i hi (by omega)) (nm_r (nI_1 i) (hw (0, 144, a1, a2, a3, a4) ⟨fun _ => rfl, fun z => absurd z (by omega)⟩))⟩)
    · have e := h.1 (by omega)
      subst e
      subst heq
      have t := hw (a3 0, 143, upd a1 0 (a10 i), upd a2 0 cm, upd a3 0 (a4 i), upd a4 i 0) ⟨fun z => absurd z (by omega), fun _ => rfl⟩
      refine pk_le 16 i (fun z => absurd z (by omega)) (fun _ => ⟨pk_in 0 6 (by omega), br_f hbc ⟨pk_in 0 144 (by omega), nm_r (e' := a3 0) rfl (nm_r (e' := (143 : Int32)) vs_143 ⟨pk_in i 96 (by omega) (vs_16 i), pk_in 0 144 (by omega), nm_r (e' := upd a1 0 (a10 i)) ?_ ⟨pk_in 0 144 (by omega), nm_r (e' := upd a2 0 cm) rfl ⟨pk_in i 16 hi, pk_in 0 144 (by omega), nm_r (e' := upd a3 0 (a4 i)) ?_ ⟨pk_in i 16 hi, nm_r (e' := upd a4 i 0) ?_ (nm_r (nI_1 i) t)⟩⟩⟩⟩)⟩⟩)
      · rw [vs_16c hi]
        rfl
      · rw [nI_clamp (by omega)]
        rfl
      · rw [nI_clamp (by omega)]
    · have e := h.2 hgt
      subst e
      exact pk_le 16 i (fun z => absurd z (by omega)) (fun _ => ⟨pk_in 0 6 (by omega), br_t (hb i hi (by omega)) (nm_r (nI_1 i) (hw _ ⟨fun z => absurd z (by omega), fun _ => rfl⟩))⟩)
theorem vs_inst {post : St2 → Prop} {c : Nat} (hc : c < 16) (hb : ∀ i, i < 16 → i ≠ c → vs_bit (a8 0) i) (hbc : ¬ vs_bit (a8 0) c)
    (H : post (a3 0, 143, cm + 1, upd a1 0 (a10 c), upd a2 0 (cm + 1), upd a3 0 (a4 c), upd a4 c 0, a5, a6, a7, a8, a9, a10)) :
    wpX_install post (0, 144, cm, a1, a2, a3, a4, a5, a6, a7, a8, a9, a10) 0 := by
  unfold wpX_install
  exact pk_le 16 144 (fun _ => nm_e (vs_inst25 hc hb hbc H)) (fun z => absurd z (by omega))
theorem vs_commitW {post : Int32 → St2 → Prop} {c : Nat} (hc : c < 16) (h4 : ∀ j, j < 16 → a4 j = -1) (h5 : ¬ a5 0 = 0) (h6 : a6 0 = 0) (h8 : ¬ a8 0 = 0) (hb : ∀ i, i < 16 → i ≠ c → vs_bit (a8 0) i) (hbc : ¬ vs_bit (a8 0) c)
    (H : post 0 (a3 0, 143, cm + 1, upd a1 0 (a10 c), upd a2 0 (cm + 1), upd a3 0 (a4 c), upd a4 c 0, upd a5 0 0, a6, a7, a8, a9, a10)) :
    wpX_commit post (0, 144, cm, a1, a2, a3, a4, a5, a6, a7, a8, a9, a10) 0 := by
  unfold wpX_commit
  exact vs_open0 h5 (br_f vs_1 (vs_may h6 h4 ⟨pk_in 0 6 (by omega), nm_e (br_f vs_1 ⟨pk_in 0 6 (by omega), br_f h8 (vs_inst hc hb hbc H)⟩)⟩))
theorem vs_commitE {post : Int32 → St2 → Prop} (h4 : ∀ j, j < 16 → a4 j = -1) (h5 : ¬ a5 0 = 0) (h6 : a6 0 = 0) (h8 : a8 0 = 0) (H : post 0 (fv, fc, cm, a1, a2, a3, a4, upd a5 0 0, a6, a7, a8, a9, a10)) : wpX_commit post (fv, fc, cm, a1, a2, a3, a4, a5, a6, a7, a8, a9, a10) 0 := by
  unfold wpX_commit
  exact vs_open0 h5 (br_f vs_1 (vs_may h6 h4 ⟨pk_in 0 6 (by omega), nm_e (br_f vs_1 ⟨pk_in 0 6 (by omega), br_t h8 H⟩)⟩))
theorem vs_commitN {post : Int32 → St2 → Prop} {p : Int32} (hp : ¬ p = 0) (h5 : ∀ j, j ≠ 0 → a5 j = 0) (H : post (-1) (fv, fc, cm, a1, a2, a3, a4, a5, a6, a7, a8, a9, a10)) : wpX_commit post (fv, fc, cm, a1, a2, a3, a4, a5, a6, a7, a8, a9, a10) p := by
  unfold wpX_commit
  exact vs_openN hp h5 (br_t rfl H)
theorem vs_comV {post : Int32 → Prop} {c : Nat} (hc : c < 16) (h4 : a4 c = 0) (h2 : ¬ cm < a2 0) (H : post (a1 0)) : wpX_committed post (fv, fc, cm, a1, a2, a3, a4, a5, a6, a7, a8, a9, a10) (nI c) := by
  unfold wpX_committed
  exact vs_cellT hc (br_f vs_1 (vs_verV hc h4 h2 H))
theorem vs_com0 {post : Int32 → Prop} {p : Int32} (h4 : ∀ j, j < 16 → a4 j = -1) (H : post 0) : wpX_committed post (fv, fc, cm, a1, a2, a3, a4, a5, a6, a7, a8, a9, a10) p := by
  unfold wpX_committed
  refine br_c (fun _ => br_t rfl H) (fun h0 => br_c (fun _ => br_t rfl H) (fun h1 => br_f vs_1 ?_))
  obtain ⟨c, hc, e⟩ := nI_of2 (M := 15) (n := 15) rfl h0 (Int32.not_lt.mp h1)
  rw [e]
  exact vs_verN (by omega) (h4 c (by omega)) H
end
end
section
section
variable {a1 a2 a3 a4 a5 a6 a7 a8 a9 a10 : Nat → Int32}
theorem vs_tailA {post : Int32 → St0 → Prop} {mc ms kc ks c : Nat} {v z0 z1 : Int32} (hc : c < 16) (h4 : ∀ j, j < 16 → a4 j = -1) (h5 : ¬ a5 0 = 0) (h6 : a6 0 = 0) (h8 : a8 0 = vs_m c) (h10 : a10 c = v) (hz : z1 = z0) (hp : post 1 ()) :
    wL_lawOf_116 post mc ms 0 (nI c) v 1 z0 z1 kc ks 0 144 0 a1 a2 a3 a4 a5 a6 a7 a8 a9 a10 := by
  unfold wL_lawOf_116
  refine br_t hz (vs_commitW hc h4 h5 h6 (by rw [h8]; exact vs_bz c hc) (fun i hi hn => by rw [h8]; exact vs_bn c hc i hi hn) (by rw [h8]; exact vs_bc c hc) (br_t rfl ?_))
  unfold wL_lawOf_136
  refine br_t rfl (vs_comV hc pk_us (by rw [pk_us]; decide) (br_f vs_1 ?_))
  unfold wL_lawOf_157
  exact br_t (by rw [pk_us, h10]) hp
theorem vs_lawA {post : Int32 → St0 → Prop} {mc ms kc ks c : Nat} {v p q : Int32} (hc : c < 16) (h4 : ∀ j, j < 16 → a4 j = -1) (h5 : ¬ a5 0 = 0) (h6 : a6 0 = 0) (h8 : a8 0 = 0) (hp : post 1 ()) :
    wL_lawOf_39 post mc ms 0 (nI c) v p q 1 kc ks 0 144 0 a1 a2 a3 a4 a5 a6 a7 a8 a9 a10 := by
  have e8 : upd a8 0 (a8 0 ||| ((1 : Int32) <<< (nI c &&& 31))) 0 = vs_m c := by rw [pk_us, h8]
  have e10 : upd a10 c v c = v := pk_us
  have hb : ¬ vs_bit (upd a8 0 (a8 0 ||| ((1 : Int32) <<< (nI c &&& 31))) 0) c := by rw [e8]; exact vs_bc c hc
  have hg : ∀ i, i ≠ c → (fun i => if i = c then v else (0 : Int32)) i = 0 := fun i hi => if_neg hi
  have hgc : (fun i => if i = c then v else (0 : Int32)) c = v := if_pos rfl
  unfold wL_lawOf_39
  refine vs_writeT hc h5 (br_f vs_1 ?_)
  unfold wL_lawOf_59
  refine br_t rfl (vs_readT hc h5 hb (br_f vs_1 ?_))
  unfold wL_lawOf_81
  refine br_t e10 (vs_sum (g := fun i => if i = c then v else (0 : Int32)) h5 ?_ ?_)
  · intro i hi ψ hψ
    by_cases e : i = c
    · have hv : ψ v := ek_v (P := ψ) (show v = (fun i => if i = c then v else (0 : Int32)) i from (if_pos e).symm) hψ
      rw [e]
      exact vs_visT hc hb (ek_v (P := ψ) e10 hv)
    · exact vs_visF hi (by rw [e8]; exact vs_bn c hc i hi e) (h4 i hi) (ek_v (P := ψ) (hg i e).symm hψ)
  · exact br_f vs_1 (br_c (fun g1 => vs_tailA hc h4 h5 h6 e8 e10 (vs_Sa hg hc g1) hp) (fun g1 => br_c (fun g2 => vs_tailA hc h4 h5 h6 e8 e10 (vs_Sb hg hc g1 g2) hp) (fun g2 => vs_tailA hc h4 h5 h6 e8 e10 ((vs_Sd hg hc g1 g2).trans hgc) hp)))
theorem vs_endF {post : Int32 → St0 → Prop} {mc ms kc ks : Nat} {x1 v z : Int32} {fv fc cm : Int32} (h4 : ∀ j, j < 16 → a4 j = -1) (hp : post 1 ()) :
    wL_lawOf_136 post mc ms x1 v 0 z z kc ks fv fc cm a1 a2 a3 a4 a5 a6 a7 a8 a9 a10 := by
  unfold wL_lawOf_136
  refine br_t rfl (vs_com0 h4 (br_t rfl ?_))
  unfold wL_lawOf_157
  exact br_t rfl hp
theorem vs_lawF {post : Int32 → St0 → Prop} {mc ms kc ks : Nat} {x0 x1 v p q : Int32} {fv fc cm : Int32} (hx : ¬ x0 = 0 ∨ (x1 < 0 ∨ 15 < x1)) (h4 : ∀ j, j < 16 → a4 j = -1) (h50 : ¬ a5 0 = 0) (h5 : ∀ j, j ≠ 0 → a5 j = 0) (h6 : a6 0 = 0) (h8 : a8 0 = 0) (hp : post 1 ()) :
    wL_lawOf_39 post mc ms x0 x1 v p q 0 kc ks fv fc cm a1 a2 a3 a4 a5 a6 a7 a8 a9 a10 := by
  unfold wL_lawOf_39
  refine vs_writeF hx h50 h5 (br_t rfl ?_)
  unfold wL_lawOf_59
  refine br_t rfl (vs_readF hx h50 h5 (br_t rfl ?_))
  unfold wL_lawOf_81
  refine br_t rfl (vs_sum (g := fun _ => (0 : Int32)) h50 ?_ ?_)
  · intro i hi ψ hψ
    exact vs_visF hi (by rw [h8]; exact vs_b0 i hi) (h4 i hi) hψ
  · refine br_t rfl ?_
    unfold wL_lawOf_115
    unfold wL_lawOf_116
    refine br_t (vs_S0 16 (fun _ _ => rfl)) ?_
    by_cases h0 : x0 = 0
    · rw [h0]
      exact vs_commitE h4 h50 h6 h8 (br_t rfl (vs_endF h4 hp))
    · exact vs_commitN h0 h5 (br_f h0 (vs_endF h4 hp))
end
theorem vs_lawOf {post : Int32 → St0 → Prop} {p0 p1 p2 p3 p4 : Int32} (hp : post 1 ()) : wpL_lawOf post 11 587 () p0 p1 p2 p3 p4 := by
  unfold wpL_lawOf
  refine ⟨by omega, by omega, 10, 574, by omega, by omega, vs_init (by omega) (by omega) (fun b3 b4 h4 => vs_begin rfl (br_t rfl ?_))⟩
  have h50 : ¬ upd (fun _ => (0 : Int32)) 0 1 0 = 0 := by rw [pk_us]; exact vs_1
  have h5 : ∀ j, j ≠ 0 → upd (fun _ => (0 : Int32)) 0 1 j = 0 := fun j hj => pk_un hj
  have h6 : upd (fun _ => (0 : Int32)) 0 (vp_nar .boolean 0) 0 = 0 := pk_us
  have h8 : upd (fun _ => (0 : Int32)) 0 0 0 = 0 := pk_us
  by_cases h0 : p0 = 0
  · refine br_t h0 (br_c (fun h1 => vs_lawF (.inr (.inl h1)) h4 h50 h5 h6 h8 hp) (fun h1 => br_c (fun h2 => vs_lawF (.inr (.inr h2)) h4 h50 h5 h6 h8 hp) (fun h2 => ?_)))
    obtain ⟨c, hc, e⟩ := nI_of2 (M := 15) (n := 15) rfl h1 (Int32.not_lt.mp h2)
    rw [h0, e]
    exact vs_lawA (by omega) h4 h50 h6 h8 hp
  · exact br_f h0 (vs_lawF (.inl h0) h4 h50 h5 h6 h8 hp)
theorem vs_cellAt {post : Int32 → Prop} {L : Nat} {xs : Nat → Int32} {x : Int32} {u : St0} (k : Nat) (hk : k < 5) (hL : L ≤ 5) (hx : x = nI k) (H : ∀ r, post r) : wpL_cellAt post L xs u x :=
  pk_le L k (fun _ => H _) (fun z => ⟨pk_in k L z hx, H _⟩) rfl hx
theorem i_vc (xs : Nat → Int32) (L : Nat) (hL : L ≤ 5) : wpL_law (fun r => r = 1) L xs := by
  unfold wpL_law
  exact vs_cellAt 0 (by omega) hL rfl (fun _ => vs_cellAt 1 (by omega) hL rfl (fun _ => vs_cellAt 2 (by omega) hL rfl (fun _ => vs_cellAt 3 (by omega) hL rfl (fun _ => vs_cellAt 4 (by omega) hL rfl (fun _ => ⟨11, 587, by omega, by omega, vs_lawOf rfl⟩)))))
end
