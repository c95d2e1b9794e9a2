section
/-! ===== bits of a mask with one cell in it ===== -/
def vs_b (c : Nat) : Int32 := (1 : Int32) <<< (nI c &&& 31)
/-- the bit of cell i is not set in x, as the bytecode asks it -/
def vs_t (x : Int32) (i : Nat) : Prop := ((x.toUInt32 >>> ((nI i).toUInt32 &&& Int32.toUInt32 31)).toInt32 &&& 1) = 0
theorem vs_w1 : ∀ c, c < 16 → ∀ i, i < 16 → (((((0 : Int32) ||| vs_b c).toUInt32 >>> ((nI i).toUInt32 &&& Int32.toUInt32 31)).toInt32 &&& 1) = 0 ↔ i ≠ c) := by decide +kernel
theorem vs_w {c i : Nat} (hc : c < 16) (hi : i < 16) : vs_t ((0 : Int32) ||| vs_b c) i ↔ i ≠ c := vs_w1 c hc i hi
theorem vs_w2 : ∀ c, c < 16 → ∀ i, i < 16 → ¬ (((((0 : Int32) ||| vs_b c) ||| ((0 : Int32) ||| vs_b i)).toUInt32 >>> ((nI i).toUInt32 &&& Int32.toUInt32 31)).toInt32 &&& 1) = 0 := by decide +kernel
theorem vs_w3 : ∀ c, c < 16 → ¬ ((0 : Int32) ||| vs_b c) = 0 := by decide +kernel
theorem vs_w4 : ∀ c, c < 16 → ¬ (((((0 : Int32) ||| vs_b c) ||| (0 : Int32)).toUInt32 >>> ((nI c).toUInt32 &&& Int32.toUInt32 31)).toInt32 &&& 1) = 0 := by decide +kernel
theorem vs_16 (t c : Nat) : (16 : Int32) * nI t + nI c = nI (16 * t + c) := by
  rw [show (16 : Int32) = nI 16 from rfl, pk_mul, nI_add]
theorem vs_m1 : (-1 : Int32) < 0 := by decide
/-! ===== VersionStore, a lemma for each method ===== -/
section
variable {fv fc cm : Int32} {a1 a2 a3 a4 a5 a6 a7 a8 a9 a10 : Nat → Int32}
theorem vs_isOpen {post : Int32 → Prop} {t : Nat} (ht : t < 6) (ho : ¬ a5 t = 0) (H : post 1) : wpX_isOpen post (fv, fc, cm, a1, a2, a3, a4, a5, a6, a7, a8, a9, a10) (nI t) := by
  refine br_f (nI_pos (by omega)) (pk_lt 5 t (fun z => absurd z (by omega)) (fun _ => ⟨pk_in t 6 ht, br_f ?_ H⟩))
  rw [nI_clamp (show t < 2 ^ 31 by omega)]
  exact ho
theorem vs_isCell {post : Int32 → Prop} {c : Nat} (hc : c < 16) (H : post 1) : wpX_isCell post () (nI c) :=
  br_f (nI_pos (by omega)) (pk_lt 15 c (fun z => absurd z (by omega)) (fun _ => H))
theorem vs_begin {post : Int32 → St2 → Prop} {k : Nat} {p0 : Int32} (hk : k < 6) (h0 : ∀ j, j < k → ¬ a5 j = 0) (h1 : a5 k = 0)
    (H : post (nI k) (fv, fc, cm, a1, a2, a3, a4, upd a5 k 1, upd a6 k (vp_nar .boolean p0), upd a7 k cm, upd a8 k 0, upd a9 k 0, a10)) : wpX_begin post (fv, fc, cm, a1, a2, a3, a4, a5, a6, a7, a8, a9, a10) p0 := by
  unfold wpX_begin
  refine pk_loop (σ := Unit) (fun n i _ => wX_begin_2 post p0 fv fc cm a1 a2 a3 a4 a5 a6 a7 a8 a9 a10 n (nI i)) (fun _ _ => True) k 0 () (by omega) trivial ?_ ?_
  · intro n _ _
    refine pk_le 6 k (fun z => absurd z (by omega)) (fun _ => ⟨pk_in k 6 hk, ?_⟩)
    rw [nI_clamp (show k < 2 ^ 31 by omega)]
    exact br_t h1 ⟨pk_in k 6 hk, nm_e ⟨pk_in k 6 hk, nm_e ⟨pk_in k 6 hk, nm_e ⟨pk_in k 6 hk, nm_e ⟨pk_in k 6 hk, nm_e H⟩⟩⟩⟩⟩
  · intro n i _ hi _ hw
    refine pk_le 6 i (fun z => absurd z (by omega)) (fun _ => ⟨pk_in i 6 (by omega), ?_⟩)
    rw [nI_clamp (show i < 2 ^ 31 by omega)]
    exact br_f (h0 i hi) (nm_r (nI_1 i) (hw () trivial))
theorem vs_write {post : Int32 → St2 → Prop} {t c : Nat} {p2 : Int32} (ht : t < 6) (ho : ¬ a5 t = 0) (hc : c < 16)
    (H : post 0 (fv, fc, cm, a1, a2, a3, a4, a5, a6, a7, upd a8 t (a8 t ||| vs_b c), a9, upd a10 (16 * t + c) p2)) : wpX_write post (fv, fc, cm, a1, a2, a3, a4, a5, a6, a7, a8, a9, a10) (nI t) (nI c) p2 := by
  unfold wpX_write
  refine vs_isOpen ht ho (br_f (by decide) (vs_isCell hc (br_f (by decide) ?_)))
  rw [vs_16, nI_clamp (show 16 * t + c < 2 ^ 31 by omega), nI_clamp (show t < 2 ^ 31 by omega)]
  exact ⟨pk_in (16 * t + c) 96 (by omega), nm_e ⟨pk_in t 6 ht, pk_in t 6 ht, nm_e H⟩⟩
theorem vs_noteN {post : St2 → Prop} {t c : Nat} (ht : t < 6) (hb : vs_t (a8 t) c) (H : post (fv, fc, cm, a1, a2, a3, a4, a5, a6, a7, a8, upd a9 t (a9 t ||| vs_b c), a10)) : wpX_note post (fv, fc, cm, a1, a2, a3, a4, a5, a6, a7, a8, a9, a10) (nI t) (nI c) := by
  unfold wpX_note
  rw [nI_clamp (show t < 2 ^ 31 by omega)]
  exact ⟨pk_in t 6 ht, br_t hb ⟨pk_in t 6 ht, pk_in t 6 ht, nm_e H⟩⟩
theorem vs_noteW {post : St2 → Prop} {t c : Nat} (ht : t < 6) (hb : ¬ vs_t (a8 t) c) (H : post (fv, fc, cm, a1, a2, a3, a4, a5, a6, a7, a8, a9, a10)) : wpX_note post (fv, fc, cm, a1, a2, a3, a4, a5, a6, a7, a8, a9, a10) (nI t) (nI c) := by
  unfold wpX_note
  rw [nI_clamp (show t < 2 ^ 31 by omega)]
  exact ⟨pk_in t 6 ht, br_f hb H⟩
/-- a cell that was never written -/
theorem vs_ver0 {post : Int32 → Prop} {c : Nat} {p1 : Int32} (hc : c < 16) (h : a4 c = -1) (H : post 0) : wpX_versionAt post (fv, fc, cm, a1, a2, a3, a4, a5, a6, a7, a8, a9, a10) (nI c) p1 := by
  unfold wpX_versionAt
  rw [nI_clamp (show c < 2 ^ 31 by omega)]
  exact ⟨pk_in c 16 hc, nm_r h ⟨1, br_f (by decide) (br_t vs_m1 H)⟩⟩
/-- the newest version is old enough -/
theorem vs_ver1 {post : Int32 → Prop} {c k : Nat} {p1 : Int32} (hc : c < 16) (hk : k < 144) (h : a4 c = nI k) (h2 : ¬ p1 < a2 k) (H : post (a1 k)) : wpX_versionAt post (fv, fc, cm, a1, a2, a3, a4, a5, a6, a7, a8, a9, a10) (nI c) p1 := by
  unfold wpX_versionAt
  rw [nI_clamp (show c < 2 ^ 31 by omega)]
  refine ⟨pk_in c 16 hc, nm_r h ⟨1, br_f (by decide) (br_f (nI_pos (by omega)) ⟨pk_in k 144 hk, ?_⟩)⟩⟩
  rw [nI_clamp (show k < 2 ^ 31 by omega)]
  exact br_f h2 ⟨pk_in k 144 hk, H⟩
/-- the newest version is too new, and there is none behind it -/
theorem vs_ver2 {post : Int32 → Prop} {c k : Nat} {p1 : Int32} (hc : c < 16) (hk : k < 144) (h : a4 c = nI k) (h2 : p1 < a2 k) (h3 : a3 k = -1) (H : post 0) : wpX_versionAt post (fv, fc, cm, a1, a2, a3, a4, a5, a6, a7, a8, a9, a10) (nI c) p1 := by
  unfold wpX_versionAt
  rw [nI_clamp (show c < 2 ^ 31 by omega)]
  refine ⟨pk_in c 16 hc, nm_r h ⟨2, br_f (by decide) (br_f (nI_pos (by omega)) ⟨pk_in k 144 hk, ?_⟩)⟩⟩
  rw [nI_clamp (show k < 2 ^ 31 by omega)]
  exact br_t h2 ⟨pk_in k 144 hk, nm_r h3 (nm_e (br_f (by decide) (br_t vs_m1 H)))⟩
theorem vs_visV {post : Int32 → Prop} {t c : Nat} (ht : t < 6) (hb : vs_t (a8 t) c) (H : wpX_versionAt post (fv, fc, cm, a1, a2, a3, a4, a5, a6, a7, a8, a9, a10) (nI c) (a7 t)) : wpX_visible post (fv, fc, cm, a1, a2, a3, a4, a5, a6, a7, a8, a9, a10) (nI t) (nI c) := by
  unfold wpX_visible
  rw [nI_clamp (show t < 2 ^ 31 by omega)]
  exact ⟨pk_in t 6 ht, br_t hb ⟨pk_in t 6 ht, H⟩⟩
theorem vs_visO {post : Int32 → Prop} {t c : Nat} (ht : t < 6) (hc : c < 16) (hb : ¬ vs_t (a8 t) c) (H : post (a10 (16 * t + c))) : wpX_visible post (fv, fc, cm, a1, a2, a3, a4, a5, a6, a7, a8, a9, a10) (nI t) (nI c) := by
  unfold wpX_visible
  rw [nI_clamp (show t < 2 ^ 31 by omega), vs_16, nI_clamp (show 16 * t + c < 2 ^ 31 by omega)]
  exact ⟨pk_in t 6 ht, br_f hb ⟨pk_in (16 * t + c) 96 (by omega), H⟩⟩
theorem vs_readO {post : Int32 → St2 → Prop} {t c : Nat} (ht : t < 6) (ho : ¬ a5 t = 0) (hc : c < 16) (hb : ¬ vs_t (a8 t) c) (H : post (a10 (16 * t + c)) (fv, fc, cm, a1, a2, a3, a4, a5, a6, a7, a8, a9, a10)) : wpX_read post (fv, fc, cm, a1, a2, a3, a4, a5, a6, a7, a8, a9, a10) (nI t) (nI c) := by
  unfold wpX_read
  exact vs_isOpen ht ho (br_f (by decide) (vs_isCell hc (br_f (by decide) (vs_noteW ht hb (vs_visO ht hc hb H)))))
theorem vs_readV {post : Int32 → St2 → Prop} {t c k : Nat} (ht : t < 6) (ho : ¬ a5 t = 0) (hc : c < 16) (hb : vs_t (a8 t) c) (hk : k < 144) (h : a4 c = nI k) (h2 : a7 t < a2 k) (h3 : a3 k = -1)
    (H : post 0 (fv, fc, cm, a1, a2, a3, a4, a5, a6, a7, a8, upd a9 t (a9 t ||| vs_b c), a10)) : wpX_read post (fv, fc, cm, a1, a2, a3, a4, a5, a6, a7, a8, a9, a10) (nI t) (nI c) := by
  unfold wpX_read
  exact vs_isOpen ht ho (br_f (by decide) (vs_isCell hc (br_f (by decide) (vs_noteN ht hb (vs_visV ht hb (vs_ver2 hc hk h h2 h3 H))))))
theorem vs_com0 {post : Int32 → Prop} {c : Nat} (hc : c < 16) (h : a4 c = -1) (H : post 0) : wpX_committed post (fv, fc, cm, a1, a2, a3, a4, a5, a6, a7, a8, a9, a10) (nI c) := by
  unfold wpX_committed
  exact vs_isCell hc (br_f (by decide) (vs_ver0 hc h H))
theorem vs_com1 {post : Int32 → Prop} {c k : Nat} (hc : c < 16) (hk : k < 144) (h : a4 c = nI k) (h2 : ¬ cm < a2 k) (H : post (a1 k)) : wpX_committed post (fv, fc, cm, a1, a2, a3, a4, a5, a6, a7, a8, a9, a10) (nI c) := by
  unfold wpX_committed
  exact vs_isCell hc (br_f (by decide) (vs_ver1 hc hk h h2 H))
end
end
section
/-! ===== mayCommit: which cell lets a transaction through, which one stops it ===== -/
/-- what the transaction is concerned with -/
def vs_x (a6 a8 a9 : Nat → Int32) (t : Nat) : Int32 := if a6 t = 0 then a8 t else a8 t ||| a9 t
/-- cell i is no hindrance: never written, or not newer than g, or not concerned -/
def vs_ok (x g : Int32) (a2 a4 : Nat → Int32) (i : Nat) : Prop := a4 i < 0 ∨ ∃ k, k < 144 ∧ a4 i = nI k ∧ (a2 k ≤ g ∨ vs_t x i)
/-- cell i is one -/
def vs_bad (x g : Int32) (a2 a4 : Nat → Int32) (i : Nat) : Prop := ∃ k, k < 144 ∧ a4 i = nI k ∧ ¬ a2 k ≤ g ∧ ¬ vs_t x i
section
variable {fv fc cm : Int32} {a1 a2 a3 a4 a5 a6 a7 a8 a9 a10 : Nat → Int32}
theorem vs_mS {post : Int32 → Prop} {t i n : Nat} {x : Int32} (ht : t < 6) (hi : i < 16) (h : vs_ok x (a7 t) a2 a4 i) (hw : wX_mayCommit_34 post (nI t) x fv fc cm a1 a2 a3 a4 a5 a6 a7 a8 a9 a10 n (nI (i + 1))) :
    wX_mayCommit_34 post (nI t) x fv fc cm a1 a2 a3 a4 a5 a6 a7 a8 a9 a10 (n + 1) (nI i) := by
  have j73 : wX_mayCommit_73 post (wX_mayCommit_34 post (nI t) x fv fc cm a1 a2 a3 a4 a5 a6 a7 a8 a9 a10 n) (nI t) x (nI i) fv fc cm a1 a2 a3 a4 a5 a6 a7 a8 a9 a10 :=
    br_c (fun _ => nm_r (nI_1 i) hw) (fun _ => br_t rfl (nm_r (nI_1 i) hw))
  refine pk_le 16 i (fun z => absurd z (by omega)) (fun _ => ⟨pk_in i 16 hi, ?_⟩)
  rw [nI_clamp (show i < 2 ^ 31 by omega)]
  rcases h with h | ⟨k, hk, e, h⟩
  · exact br_t h j73
  · rw [e, nI_clamp (show k < 2 ^ 31 by omega), nI_clamp (show t < 2 ^ 31 by omega)]
    refine br_f (nI_pos (by omega)) ⟨pk_in i 16 hi, pk_in k 144 hk, pk_in t 6 ht, ?_⟩
    by_cases g : a2 k ≤ a7 t
    · exact br_t g j73
    · rcases h with h | h
      · exact absurd h g
      · exact br_f g (br_t h (nm_r (nI_1 i) hw))
theorem vs_mB {post : Int32 → Prop} {t i n : Nat} {x : Int32} (ht : t < 6) (hi : i < 16) (h : vs_bad x (a7 t) a2 a4 i) (H : post 0) :
    wX_mayCommit_34 post (nI t) x fv fc cm a1 a2 a3 a4 a5 a6 a7 a8 a9 a10 (n + 1) (nI i) := by
  obtain ⟨k, hk, e, h1, h2⟩ := h
  refine pk_le 16 i (fun z => absurd z (by omega)) (fun _ => ⟨pk_in i 16 hi, ?_⟩)
  rw [nI_clamp (show i < 2 ^ 31 by omega)]
  rw [e, nI_clamp (show k < 2 ^ 31 by omega), nI_clamp (show t < 2 ^ 31 by omega)]
  exact br_f (nI_pos (by omega)) ⟨pk_in i 16 hi, pk_in k 144 hk, pk_in t 6 ht, br_f h1 (br_f h2 (br_f (by decide) H))⟩
theorem vs_mX {post : Int32 → Prop} {t : Nat} (ht : t < 6) (h : ∃ n, wX_mayCommit_34 post (nI t) (vs_x a6 a8 a9 t) fv fc cm a1 a2 a3 a4 a5 a6 a7 a8 a9 a10 n 0) : wpX_mayCommit post (fv, fc, cm, a1, a2, a3, a4, a5, a6, a7, a8, a9, a10) (nI t) := by
  unfold wpX_mayCommit
  rw [nI_clamp (show t < 2 ^ 31 by omega)]
  unfold vs_x at h
  by_cases g : a6 t = 0
  · rw [if_pos g] at h
    exact ⟨pk_in t 6 ht, br_t g ⟨pk_in t 6 ht, nm_e h⟩⟩
  · rw [if_neg g] at h
    exact ⟨pk_in t 6 ht, br_f g ⟨pk_in t 6 ht, pk_in t 6 ht, nm_e h⟩⟩
theorem vs_mayA {post : Int32 → Prop} {t : Nat} (ht : t < 6) (h : ∀ i, i < 16 → vs_ok (vs_x a6 a8 a9 t) (a7 t) a2 a4 i) (H : post 1) : wpX_mayCommit post (fv, fc, cm, a1, a2, a3, a4, a5, a6, a7, a8, a9, a10) (nI t) :=
  vs_mX ht (pk_loop (σ := Unit) (fun n i _ => wX_mayCommit_34 post (nI t) (vs_x a6 a8 a9 t) fv fc cm a1 a2 a3 a4 a5 a6 a7 a8 a9 a10 n (nI i)) (fun _ _ => True) 16 0 () (by omega) trivial
    (fun n _ _ => pk_le 16 16 (fun _ => H) (fun z => absurd z (by omega)))
    (fun n i _ hi _ hw => vs_mS ht hi (h i hi) (hw () trivial)))
theorem vs_mayR {post : Int32 → Prop} {t d : Nat} (ht : t < 6) (hd : d < 16) (h : ∀ i, i < d → vs_ok (vs_x a6 a8 a9 t) (a7 t) a2 a4 i) (hb : vs_bad (vs_x a6 a8 a9 t) (a7 t) a2 a4 d) (H : post 0) : wpX_mayCommit post (fv, fc, cm, a1, a2, a3, a4, a5, a6, a7, a8, a9, a10) (nI t) :=
  vs_mX ht (pk_loop (σ := Unit) (fun n i _ => wX_mayCommit_34 post (nI t) (vs_x a6 a8 a9 t) fv fc cm a1 a2 a3 a4 a5 a6 a7 a8 a9 a10 n (nI i)) (fun _ _ => True) d 0 () (by omega) trivial
    (fun n _ _ => vs_mB ht hd hb H)
    (fun n i _ hi _ hw => vs_mS ht (by omega) (h i hi) (hw () trivial)))
theorem vs_mightA {post : Int32 → Prop} {t : Nat} (ht : t < 6) (ho : ¬ a5 t = 0) (h : ∀ i, i < 16 → vs_ok (vs_x a6 a8 a9 t) (a7 t) a2 a4 i) (H : post 1) : wpX_might post (fv, fc, cm, a1, a2, a3, a4, a5, a6, a7, a8, a9, a10) (nI t) := by
  unfold wpX_might
  exact vs_isOpen ht ho (br_f (by decide) (vs_mayA ht h (br_f (by decide) H)))
theorem vs_mightR {post : Int32 → Prop} {t d : Nat} (ht : t < 6) (ho : ¬ a5 t = 0) (hd : d < 16) (h : ∀ i, i < d → vs_ok (vs_x a6 a8 a9 t) (a7 t) a2 a4 i) (hb : vs_bad (vs_x a6 a8 a9 t) (a7 t) a2 a4 d) (H : post 0) : wpX_might post (fv, fc, cm, a1, a2, a3, a4, a5, a6, a7, a8, a9, a10) (nI t) := by
  unfold wpX_might
  exact vs_isOpen ht ho (br_f (by decide) (vs_mayR ht hd h hb (br_t rfl H)))
/-! ===== install: one cell written ===== -/
theorem vs_iA {post : St2 → Prop} {t : Nat} (ht : t < 6) (H : post (fv, fc, cm, a1, a2, a3, a4, a5, a6, a7, a8, a9, a10)) : ∀ m i, i + m = 16 → (∀ j, i ≤ j → j < 16 → vs_t (a8 t) j) → wX_install_25 post (nI t) cm (m + 1) (nI i) fv fc a1 a2 a3 a4 a5 a6 a7 a8 a9 a10
  | 0, i, h, _ => pk_le 16 i (fun _ => H) (fun z => absurd z (by omega))
  | m + 1, i, h, hb => by
    refine pk_le 16 i (fun z => absurd z (by omega)) (fun _ => ⟨pk_in t 6 ht, ?_⟩)
    rw [nI_clamp (show t < 2 ^ 31 by omega)]
    exact br_t (hb i (by omega) (by omega)) (nm_r (nI_1 i) (vs_iA ht H m (i + 1) (by omega) (fun j h1 h2 => hb j (by omega) h2)))
theorem vs_iB {post : St2 → Prop} {t c v : Nat} (ht : t < 6) (hc : c < 16) (hv : v < 144) (hb : ∀ j, j < 16 → (vs_t (a8 t) j ↔ j ≠ c))
    (H : post (a3 v, fc - 1, cm, upd a1 v (a10 (16 * t + c)), upd a2 v cm, upd a3 v (a4 c), upd a4 c (nI v), a5, a6, a7, a8, a9, a10)) :
    ∀ m i, i + m = 16 → i ≤ c → wX_install_25 post (nI t) cm (m + 1) (nI i) (nI v) fc a1 a2 a3 a4 a5 a6 a7 a8 a9 a10
  | 0, i, h, hi => absurd hi (by omega)
  | m + 1, i, h, hi => by
    refine pk_le 16 i (fun z => absurd z (by omega)) (fun _ => ⟨pk_in t 6 ht, ?_⟩)
    by_cases e : i = c
    · subst e
      rw [nI_clamp (show t < 2 ^ 31 by omega), nI_clamp (show v < 2 ^ 31 by omega), nI_clamp (show i < 2 ^ 31 by omega), vs_16, nI_clamp (show 16 * t + i < 2 ^ 31 by omega)]
      refine br_f (fun z => (hb i hc).mp z rfl) ⟨pk_in v 144 hv, nm_e (nm_e ⟨pk_in (16 * t + i) 96 (by omega), pk_in v 144 hv, nm_e ⟨pk_in v 144 hv, nm_e ⟨pk_in i 16 hc, pk_in v 144 hv, nm_e ⟨pk_in i 16 hc, nm_e (nm_r (nI_1 i) ?_)⟩⟩⟩⟩)⟩
      exact vs_iA ht H m (i + 1) (by omega) (fun j h1 h2 => (hb j h2).mpr (by omega))
    · rw [nI_clamp (show t < 2 ^ 31 by omega)]
      exact br_t ((hb i (by omega)).mpr e) (nm_r (nI_1 i) (vs_iB ht hc hv hb H m (i + 1) (by omega) (by omega)))
theorem vs_install {post : St2 → Prop} {t c v : Nat} (ht : t < 6) (hc : c < 16) (hv : v < 144) (hb : ∀ j, j < 16 → (vs_t (a8 t) j ↔ j ≠ c)) (hf : 16 ≤ fc)
    (H : post (a3 v, fc - 1, cm + 1, upd a1 v (a10 (16 * t + c)), upd a2 v (cm + 1), upd a3 v (a4 c), upd a4 c (nI v), a5, a6, a7, a8, a9, a10)) : wpX_install post (nI v, fc, cm, a1, a2, a3, a4, a5, a6, a7, a8, a9, a10) (nI t) := by
  unfold wpX_install
  exact br_t hf (nm_e ⟨17, vs_iB ht hc hv hb H 16 0 (by omega) (by omega)⟩)
theorem vs_commitA {post : Int32 → St2 → Prop} {t c v : Nat} (ht : t < 6) (ho : ¬ a5 t = 0) (hm : ∀ i, i < 16 → vs_ok (vs_x a6 a8 a9 t) (a7 t) a2 a4 i) (hc : c < 16) (hv : v < 144)
    (h8 : ¬ a8 t = 0) (hb : ∀ j, j < 16 → (vs_t (a8 t) j ↔ j ≠ c)) (hf : 16 ≤ fc)
    (H : post 0 (a3 v, fc - 1, cm + 1, upd a1 v (a10 (16 * t + c)), upd a2 v (cm + 1), upd a3 v (a4 c), upd a4 c (nI v), upd a5 t 0, a6, a7, a8, a9, a10)) : wpX_commit post (nI v, fc, cm, a1, a2, a3, a4, a5, a6, a7, a8, a9, a10) (nI t) := by
  unfold wpX_commit
  refine vs_isOpen ht ho (br_f (by decide) (vs_mayA ht hm ⟨pk_in t 6 ht, ?_⟩))
  rw [nI_clamp (show t < 2 ^ 31 by omega)]
  exact nm_e (br_f (by decide) ⟨pk_in t 6 ht, br_f h8 (vs_install ht hc hv hb hf H)⟩)
theorem vs_commitR {post : Int32 → St2 → Prop} {t d : Nat} (ht : t < 6) (ho : ¬ a5 t = 0) (hd : d < 16) (h : ∀ i, i < d → vs_ok (vs_x a6 a8 a9 t) (a7 t) a2 a4 i) (hb : vs_bad (vs_x a6 a8 a9 t) (a7 t) a2 a4 d)
    (H : post 1 (fv, fc, cm, a1, a2, a3, a4, upd a5 t 0, a6, a7, a8, a9, a10)) : wpX_commit post (fv, fc, cm, a1, a2, a3, a4, a5, a6, a7, a8, a9, a10) (nI t) := by
  unfold wpX_commit
  refine vs_isOpen ht ho (br_f (by decide) (vs_mayR ht hd h hb ⟨pk_in t 6 ht, ?_⟩))
  rw [nI_clamp (show t < 2 ^ 31 by omega)]
  exact nm_e (br_t rfl H)
end
end
section
/-! ===== the constructor ===== -/
theorem vs_fill {s : Nat → Int32} {i k : Nat} {x : Int32} (hk : k = i) (h : ∀ j, j < i → s j = x) : ∀ j, j < i + 1 → upd s k x j = x := by
  intro j hj
  rw [hk]
  by_cases e : j = i
  · rw [e, pk_us]
  · rw [pk_un e]
    exact h j (by omega)
section
variable {fv fc cm : Int32} {a1 a2 a3 a4 a5 a6 a7 a8 a9 a10 : Nat → Int32}
theorem vs_131 {post : St2 → Prop} {mc ms kc ks : Nat} (H : ∀ b4 : Nat → Int32, (∀ i, i < 16 → b4 i = -1) → post (fv, fc, cm, a1, a2, a3, b4, a5, a6, a7, a8, a9, a10)) : ∃ n, wX_init_131 post mc ms kc ks fv fc cm n 0 a1 a2 a3 a4 a5 a6 a7 a8 a9 a10 :=
  pk_loop (fun n i s => wX_init_131 post mc ms kc ks fv fc cm n (nI i) a1 a2 a3 s a5 a6 a7 a8 a9 a10) (fun i s => ∀ j, j < i → s j = -1) 16 0 a4 (by omega) (fun j hj => absurd hj (by omega))
    (fun n s h => pk_le 16 16 (fun _ => H s h) (fun z => absurd z (by omega)))
    (fun n i s hi h hw => pk_le 16 i (fun z => absurd z (by omega)) (fun _ => ⟨pk_in i 16 hi, nm_e (nm_r (nI_1 i) (hw _ (vs_fill (nI_clamp (by omega)) h)))⟩))
theorem vs_89 {post : St2 → Prop} {mc ms kc ks : Nat} (H : ∀ b3 b4 : Nat → Int32, b3 0 = nI 1 → (∀ i, i < 16 → b4 i = -1) → post (fv, 144, cm, a1, a2, b3, b4, a5, a6, a7, a8, a9, a10)) : ∃ n, wX_init_89 post mc ms kc ks fv fc cm n 0 a1 a2 a3 a4 a5 a6 a7 a8 a9 a10 := by
  refine pk_loop (fun n i s => wX_init_89 post mc ms kc ks fv fc cm n (nI i) a1 a2 s a4 a5 a6 a7 a8 a9 a10) (fun i s => 0 < i → s 0 = nI 1) 144 0 a3 (by omega) (fun z => absurd z (by omega)) ?_ ?_
  · exact fun n s h => pk_le 144 144 (fun _ => vs_131 (fun b4 h4 => H s b4 (h (by omega)) h4)) (fun z => absurd z (by omega))
  · intro n i s hi h hw
    refine pk_le 144 i (fun z => absurd z (by omega)) (fun _ => pk_eq i 143 (fun z => ⟨pk_in i 144 hi, nm_e (nm_r (nI_1 i) (hw _ (fun _ => ?_)))⟩) (fun z => ⟨pk_in i 144 hi, nm_e (nm_r (nI_1 i) (hw _ (fun _ => ?_)))⟩))
    · rw [nI_clamp (show i < 2 ^ 31 by omega), pk_un (by omega)]
      exact h (by omega)
    · rw [nI_clamp (show i < 2 ^ 31 by omega)]
      by_cases e : i = 0
      · rw [e, pk_us, nI_1]
      · rw [pk_un (by omega)]
        exact h (by omega)
end
theorem vs_init {post : St2 → Prop} {mc ms : Nat} (hc : 10 ≤ mc) (hs : 574 ≤ ms)
    (H : ∀ b3 b4 : Nat → Int32, b3 0 = nI 1 → (∀ i, i < 16 → b4 i = -1) → post (0, 144, 0, (fun _ => 0), (fun _ => 0), b3, b4, (fun _ => 0), (fun _ => 0), (fun _ => 0), (fun _ => 0), (fun _ => 0), (fun _ => 0))) : wpX_init post mc ms (0, 0, 0) :=
  ⟨by omega, by omega, by omega, by omega, by omega, by omega, by omega, by omega, by omega, by omega, by omega, by omega, by omega, by omega, by omega, by omega, by omega, by omega, by omega, by omega, vs_89 H⟩
/-! ===== the law, from its end to its beginning ===== -/
section
variable {fv fc cm : Int32} {a1 a2 a3 a4 a5 a6 a7 a8 a9 a10 : Nat → Int32} {post : Int32 → St0 → Prop} {mc ms kc ks c d : Nat} {v w x4 : Int32}
theorem vs_ne (hc : c < 16) (hd : d < 16) (e : c ≠ d) : ¬ nI c = nI d := fun z => e ((nI_eq (by omega) (by omega)).mp z)
/-- behind the read, transaction 0 may not commit -/
theorem vs_137r (hc : c < 16) (hd : d < 16) (hcm : cm = 1) (h1 : a1 0 = w) (h2 : a2 0 = 1) (h4 : a4 d = nI 0) (h4' : ∀ i, i < 16 → i ≠ d → a4 i = -1) (h5 : ¬ a5 0 = 0) (h7 : a7 0 = 0)
    (hx : ¬ vs_t (vs_x a6 a8 a9 0) d) (H : post 1 ()) : wL_lawOf_137 post mc ms v w (nI c) (nI d) 0 kc ks fv fc cm a1 a2 a3 a4 a5 a6 a7 a8 a9 a10 := by
  have hok : ∀ i, i < d → vs_ok (vs_x a6 a8 a9 0) (a7 0) a2 a4 i := fun i hi => Or.inl (by rw [h4' i (by omega) (by omega)]; exact vs_m1)
  have hbad : vs_bad (vs_x a6 a8 a9 0) (a7 0) a2 a4 d := ⟨0, by omega, h4, by rw [h2, h7]; decide, hx⟩
  have hlt : ¬ cm < a2 0 := by rw [hcm, h2]; decide
  unfold wL_lawOf_137
  refine vs_mightR (t := 0) (by omega) h5 hd hok hbad (br_t rfl ?_)
  unfold wL_lawOf_155
  refine br_t rfl (vs_commitR (t := 0) (by omega) h5 hd hok hbad (br_t rfl ?_))
  unfold wL_lawOf_174
  refine br_t rfl ?_
  by_cases e : c = d
  · subst e
    refine vs_com1 (k := 0) hc (by omega) h4 hlt (br_t rfl ?_)
    unfold wL_lawOf_207
    exact br_t h1 (vs_com1 (k := 0) hc (by omega) h4 hlt (br_t h1 H))
  · refine vs_com0 hc (h4' c hc e) (br_f (vs_ne hc hd e) (br_t rfl ?_))
    unfold wL_lawOf_207
    exact br_t rfl (vs_com1 (k := 0) hd (by omega) h4 hlt (br_t h1 H))
/-- behind the read, transaction 0 may commit -/
theorem vs_137a (hc : c < 16) (hd : d < 16) (e : c ≠ d) (hf : 16 ≤ fc) (hcm : cm = 1) (h1 : a1 0 = w) (h2 : a2 0 = 1) (h4 : a4 d = nI 0) (h4' : ∀ i, i < 16 → i ≠ d → a4 i = -1) (h5 : ¬ a5 0 = 0)
    (h8 : a8 0 = (0 : Int32) ||| vs_b c) (h10 : a10 (16 * 0 + c) = v) (hx : vs_t (vs_x a6 a8 a9 0) d) (H : post 1 ()) : wL_lawOf_137 post mc ms v w (nI c) (nI d) 1 kc ks (nI 1) fc cm a1 a2 a3 a4 a5 a6 a7 a8 a9 a10 := by
  have hok : ∀ i, i < 16 → vs_ok (vs_x a6 a8 a9 0) (a7 0) a2 a4 i := by
    intro i hi
    by_cases g : i = d
    · subst g
      exact Or.inr ⟨0, by omega, h4, Or.inr hx⟩
    · exact Or.inl (by rw [h4' i hi g]; exact vs_m1)
  unfold wL_lawOf_137
  refine vs_mightA (t := 0) (by omega) h5 hok (br_f (by decide) ?_)
  unfold wL_lawOf_155
  refine br_t rfl (vs_commitA (t := 0) (c := c) (v := 1) (by omega) h5 hok hc (by omega) (by rw [h8]; exact vs_w3 c hc) (fun j hj => by rw [h8]; exact vs_w hc hj) hf (br_f (by decide) ?_))
  unfold wL_lawOf_174
  refine br_t rfl (vs_com1 (k := 1) hc (by omega) pk_us (by rw [pk_us, hcm]; decide) (br_f (vs_ne hc hd e) (br_f (by decide) ?_)))
  unfold wL_lawOf_207
  refine br_t (by rw [pk_us]; exact h10) (vs_com1 (k := 0) hd (by omega) (by rw [pk_un (Ne.symm e)]; exact h4) (by rw [pk_un (by omega), hcm, h2]; decide) (br_t (by rw [pk_un (by omega)]; exact h1) H))
/-- behind the read -/
theorem vs_113 {z0 z1 : Int32} (hz : z1 = z0) (hc : c < 16) (hd : d < 16) (hf : 16 ≤ fc) (hcm : cm = 1) (h1 : a1 0 = w) (h2 : a2 0 = 1) (h4 : a4 d = nI 0) (h4' : ∀ i, i < 16 → i ≠ d → a4 i = -1) (h5 : ¬ a5 0 = 0)
    (h6 : (x4 &&& 1 = 0 ∧ a6 0 = 0) ∨ (¬ x4 &&& 1 = 0 ∧ ¬ a6 0 = 0)) (h7 : a7 0 = 0) (h8 : a8 0 = (0 : Int32) ||| vs_b c) (h9 : c = d → a9 0 = 0) (h9' : c ≠ d → a9 0 = (0 : Int32) ||| vs_b d)
    (h10 : a10 (16 * 0 + c) = v) (H : post 1 ()) : wL_lawOf_113 post mc ms v w x4 (nI c) (nI d) z0 z1 kc ks (nI 1) fc cm a1 a2 a3 a4 a5 a6 a7 a8 a9 a10 := by
  unfold wL_lawOf_113
  refine br_t hz ?_
  by_cases e : c = d
  · subst e
    refine br_t rfl (vs_137r hc hc hcm h1 h2 h4 h4' h5 h7 ?_ H)
    unfold vs_x
    rw [h8, h9 rfl]
    by_cases g : a6 0 = 0
    · rw [if_pos g]
      exact fun z => (vs_w hc hc).mp z rfl
    · rw [if_neg g]
      exact vs_w4 c hc
  · refine br_f (vs_ne hc hd e) ?_
    rcases h6 with ⟨hk, g⟩ | ⟨hk, g⟩
    · refine br_t hk (vs_137a hc hd e hf hcm h1 h2 h4 h4' h5 h8 h10 ?_ H)
      unfold vs_x
      rw [if_pos g, h8]
      exact (vs_w hc hd).mpr (Ne.symm e)
    · refine br_f hk (vs_137r hc hd hcm h1 h2 h4 h4' h5 h7 ?_ H)
      unfold vs_x
      rw [if_neg g, h8, h9' e]
      exact vs_w2 c hc d hd
/-- the first commit -/
theorem vs_c1 {Q : Int32 → St2 → Prop} (hd : d < 16) (h4 : ∀ i, i < 16 → a4 i = -1) (h50 : ¬ a5 0 = 0) (h51 : ¬ a5 1 = 0) (h81 : a8 1 = (0 : Int32) ||| vs_b d) (hA : a10 (16 * 1 + d) = w) (h3 : a3 0 = nI 1)
    (H : ∀ b1 b2 b3 b4 b5 : Nat → Int32, b1 0 = w → b2 0 = 1 → b3 0 = -1 → b4 d = nI 0 → (∀ i, i < 16 → i ≠ d → b4 i = -1) → ¬ b5 0 = 0 → Q 0 (nI 1, 143, 1, b1, b2, b3, b4, b5, a6, a7, a8, a9, a10)) :
    wpX_commit Q (nI 0, 144, 0, a1, a2, a3, a4, a5, a6, a7, a8, a9, a10) (nI 1) := by
  refine vs_commitA (t := 1) (c := d) (v := 0) (by omega) h51 (fun i hi => Or.inl (by rw [h4 i hi]; exact vs_m1)) hd (by omega) (by rw [h81]; exact vs_w3 d hd) (fun j hj => by rw [h81]; exact vs_w hd hj) (by decide) ?_
  rw [h3]
  exact H _ _ _ _ _ (by rw [pk_us]; exact hA) (by rw [pk_us]; rfl) (by rw [pk_us]; exact h4 d hd) pk_us (fun i hi g => by rw [pk_un g]; exact h4 i hi) (by rw [pk_un (by omega)]; exact h50)
/-- behind the first begin -/
theorem vs_55 {s : Int32} (hc : c < 16) (hd : d < 16) (h3 : a3 0 = nI 1) (h4 : ∀ i, i < 16 → a4 i = -1) (h50 : ¬ a5 0 = 0) (h51 : a5 1 = 0)
    (h6 : (x4 &&& 1 = 0 ∧ a6 0 = 0) ∨ (¬ x4 &&& 1 = 0 ∧ ¬ a6 0 = 0)) (h7 : a7 0 = 0) (h8 : a8 0 = 0) (h9 : a9 0 = 0) (H : post 1 ()) : wL_lawOf_55 post mc ms v w x4 (nI c) (nI d) s kc ks (nI 0) 144 0 a1 a2 a3 a4 a5 a6 a7 a8 a9 a10 := by
  unfold wL_lawOf_55
  refine vs_begin (k := 1) (by omega) (fun j hj => by rw [show j = 0 by omega]; exact h50) h51 (br_t rfl ?_)
  refine vs_write (t := 0) (by omega) (by rw [pk_un (by omega)]; exact h50) hc ?_
  refine vs_write (t := 1) (by omega) (by rw [pk_us]; decide) hd ?_
  refine vs_c1 (w := w) hd h4 (by rw [pk_un (by omega)]; exact h50) (by rw [pk_us]; decide) (by rw [pk_us, pk_un (by omega), pk_us]) pk_us h3 ?_
  intro b1 b2 b3 b4 b5 g1 g2 g3 g4 g4' g5
  refine br_t rfl ?_
  have k8 : upd (upd (upd a8 1 0) 0 (upd a8 1 0 0 ||| vs_b c)) 1 (upd (upd a8 1 0) 0 (upd a8 1 0 0 ||| vs_b c) 1 ||| vs_b d) 0 = (0 : Int32) ||| vs_b c := by
    rw [pk_un (by omega), pk_us, pk_un (by omega), h8]
  have k10 : upd (upd a10 (16 * 0 + c) v) (16 * 1 + d) w (16 * 0 + c) = v := by
    rw [pk_un (by omega), pk_us]
  have k6 : (x4 &&& 1 = 0 ∧ upd a6 1 (vp_nar .boolean s) 0 = 0) ∨ (¬ x4 &&& 1 = 0 ∧ ¬ upd a6 1 (vp_nar .boolean s) 0 = 0) := by
    rw [pk_un (by omega)]; exact h6
  have k7 : upd a7 1 0 0 = 0 := by rw [pk_un (by omega)]; exact h7
  have k9 : upd a9 1 0 0 = 0 := by rw [pk_un (by omega)]; exact h9
  by_cases e : c = d
  · subst e
    refine vs_readO (t := 0) (by omega) g5 hc (by rw [k8]; exact fun z => (vs_w hc hc).mp z rfl) (br_t rfl ?_)
    exact vs_113 k10 hc hc (by decide) rfl g1 g2 g4 g4' g5 k6 k7 k8 (fun _ => k9) (fun z => absurd rfl z) k10 H
  · refine vs_readV (t := 0) (k := 0) (by omega) g5 hd (by rw [k8]; exact (vs_w hc hd).mpr (Ne.symm e)) (by omega) g4 (by rw [k7, g2]; decide) g3 (br_f (vs_ne hc hd e) ?_)
    exact vs_113 rfl hc hd (by decide) rfl g1 g2 g4 g4' g5 k6 k7 k8 (fun z => absurd z e) (fun _ => by rw [pk_us, k9]) k10 H
/-- behind the constructor -/
theorem vs_36 {s : Int32} {b3 b4 : Nat → Int32} (hc : c < 16) (hd : d < 16) (h3 : b3 0 = nI 1) (h4 : ∀ i, i < 16 → b4 i = -1) (hs : (x4 &&& 1 = 0 ∧ vp_nar .boolean s = 0) ∨ (¬ x4 &&& 1 = 0 ∧ ¬ vp_nar .boolean s = 0)) (H : post 1 ()) :
    wL_lawOf_36 post mc ms v w x4 (nI c) (nI d) s kc ks 0 144 0 (fun _ => 0) (fun _ => 0) b3 b4 (fun _ => 0) (fun _ => 0) (fun _ => 0) (fun _ => 0) (fun _ => 0) (fun _ => 0) := by
  unfold wL_lawOf_36
  refine vs_begin (k := 0) (by omega) (fun j hj => absurd hj (by omega)) rfl ?_
  have go : ∀ z : Int32, wL_lawOf_55 post mc ms v w x4 (nI c) (nI d) z kc ks (nI 0) 144 0 (fun _ => 0) (fun _ => 0) b3 b4 (upd (fun _ => 0) 0 1) (upd (fun _ => 0) 0 (vp_nar .boolean s)) (upd (fun _ => 0) 0 0) (upd (fun _ => 0) 0 0) (upd (fun _ => 0) 0 0) (fun _ => 0) :=
    fun z => vs_55 hc hd h3 h4 (by rw [pk_us]; decide) (by rw [pk_un (by omega)]) (by rw [pk_us]; exact hs) pk_us pk_us pk_us H
  exact br_c (fun _ => go 1) (fun _ => go 0)
end
theorem vs_lawOf {post : Int32 → St0 → Prop} {mc ms : Nat} {p0 p1 p2 p3 p4 : Int32} (hm : 11 ≤ mc) (hs : 587 ≤ ms) (H : post 1 ()) : wpL_lawOf post mc ms () p0 p1 p2 p3 p4 := by
  obtain ⟨c, hc, ec⟩ := pk_andE p0 (m := 15) 4 (by decide)
  obtain ⟨d, hd, ed⟩ := pk_andE p1 (m := 15) 4 (by decide)
  refine ⟨by omega, by omega, 10, 574, by omega, by omega, vs_init (by omega) (by omega) (fun b3 b4 h3 h4 => nm_r ec (nm_r ed (br_c (fun g => ?_) (fun g => ?_))))⟩
  · exact vs_36 hc hd h3 h4 (Or.inr ⟨by rw [g]; decide, by decide⟩) H
  · refine vs_36 hc hd h3 h4 (Or.inl ⟨?_, by decide⟩) H
    obtain ⟨j, hj, ej⟩ := pk_andE p4 (m := 1) 1 (by decide)
    have hj' : j = 0 ∨ j = 1 := by omega
    rcases hj' with e | e
    · rw [ej, e]; rfl
    · exact absurd (by rw [ej, e]; rfl) g
theorem vs_cell {post : Int32 → Prop} {L : Nat} {xs : Nat → Int32} (i : Nat) (hL : L ≤ 5) (hi : i < 5) (H : ∀ x, post x) : wpL_cellAt post L xs () (nI i) :=
  pk_le L i (fun _ => H 0) (fun z => ⟨pk_in i L z, H _⟩)
theorem i_vc (xs : Nat → Int32) (L : Nat) (hL : L ≤ 5) : wpL_law (fun r => r = 1) L xs := by
  unfold wpL_law
  exact vs_cell 0 hL (by omega) (fun r1 => vs_cell 1 hL (by omega) (fun r2 => vs_cell 2 hL (by omega) (fun r3 => vs_cell 3 hL (by omega) (fun r4 => vs_cell 4 hL (by omega) (fun r5 =>
    ⟨312, 4976, by omega, by omega, vs_lawOf (by omega) (by omega) rfl⟩)))))
end
