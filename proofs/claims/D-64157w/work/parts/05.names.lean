/-! class tables, printed by gnames.py -/
def mf_0 : u_T := fun k => match k with
  | 0 => ("DotBook", "width", "I", true)
  | 1 => ("DotBook", "height", "I", true)
  | 2 => ("DotBook", "kinds", "[LDotBook$Kind;", true)
  | 3 => ("DotBook", "typed", "Ljava/lang/StringBuilder;", true)
  | 4 => ("DotBook", "rules", "[LDotBook$Rule;", true)
  | 5 => ("DotBook", "ruleCount", "I", false)
  | 6 => ("DotBook", "wrong", "I", false)
  | 7 => ("DotBook", "blocks", "[LDotBook$Block;", true)
  | 8 => ("DotBook", "blockCount", "I", false)
  | 9 => ("DotBook", "heard", "Ljava/lang/StringBuilder;", true)
  | 10 => ("DotBook", "laid", "Z", false)
  | 11 => ("DotBook", "lines", "Ljava/util/ArrayList;", true)
  | 12 => ("DotBook", "lineCount", "I", false)
  | 13 => ("DotBook", "page", "I", false)
  | 14 => ("DotBook", "used", "I", false)
  | _ => ("DotBook", "foot", "LDotBook$Line;", true)
def mt_0 : Nat → FieldType := fun k => match k with
  | 0 => .int
  | 1 => .int
  | 2 => .array (.object "DotBook$Kind")
  | 3 => .object "java/lang/StringBuilder"
  | 4 => .array (.object "DotBook$Rule")
  | 5 => .int
  | 6 => .int
  | 7 => .array (.object "DotBook$Block")
  | 8 => .int
  | 9 => .object "java/lang/StringBuilder"
  | 10 => .boolean
  | 11 => .object "java/util/ArrayList"
  | 12 => .int
  | 13 => .int
  | 14 => .int
  | _ => .object "DotBook$Line"
def mf_1 : u_T := fun k => match k with
  | 0 => ("java/lang/AbstractStringBuilder", "value", "[B", false)
  | 1 => ("java/lang/AbstractStringBuilder", "coder", "B", false)
  | 2 => ("java/lang/AbstractStringBuilder", "maybeLatin1", "Z", false)
  | _ => ("java/lang/AbstractStringBuilder", "count", "I", false)
def mt_1 : Nat → FieldType := fun k => match k with
  | 0 => .array .byte
  | 1 => .byte
  | 2 => .boolean
  | _ => .int
def mf_2 : u_T := fun k => match k with
  | 0 => ("java/lang/String", "value", "[B", true)
  | 1 => ("java/lang/String", "coder", "B", true)
  | 2 => ("java/lang/String", "hash", "I", false)
  | _ => ("java/lang/String", "hashIsZero", "Z", false)
def mt_2 : Nat → FieldType := fun k => match k with
  | 0 => .array .byte
  | 1 => .byte
  | 2 => .int
  | _ => .boolean
def mf_3 : u_T := fun k => match k with
  | 0 => ("java/util/ArrayList", "elementData", "[Ljava/lang/Object;", false)
  | 1 => ("java/util/ArrayList", "size", "I", false)
  | _ => ("java/util/AbstractList", "modCount", "I", false)
def mt_3 : Nat → FieldType := fun k => match k with
  | 0 => .array (.object "java/lang/Object")
  | 1 => .int
  | _ => .int
def mf_4 : u_T := fun k => match k with
  | 0 => ("DotBook$Line", "cells", "[B", true)
  | 1 => ("DotBook$Line", "count", "I", false)
  | 2 => ("DotBook$Line", "left", "I", false)
  | 3 => ("DotBook$Line", "page", "I", false)
  | _ => ("DotBook$Line", "place", "I", false)
def mt_4 : Nat → FieldType := fun k => match k with
  | 0 => .array .byte
  | 1 => .int
  | 2 => .int
  | 3 => .int
  | _ => .int
def mf_5 : u_T := fun k => match k with
  | 0 => ("DotBook$Rule", "kind", "I", false)
  | 1 => ("DotBook$Rule", "letters", "[C", true)
  | 2 => ("DotBook$Rule", "length", "I", false)
  | 3 => ("DotBook$Rule", "cells", "[B", true)
  | _ => ("DotBook$Rule", "count", "I", false)
def mt_5 : Nat → FieldType := fun k => match k with
  | 0 => .int
  | 1 => .array .char
  | 2 => .int
  | 3 => .array .byte
  | _ => .int
def mf_6 : u_T := fun k => match k with
  | 0 => ("DotBook$Block", "kind", "LDotBook$Kind;", true)
  | 1 => ("DotBook$Block", "cells", "[B", false)
  | 2 => ("DotBook$Block", "origins", "[B", false)
  | 3 => ("DotBook$Block", "size", "I", false)
  | _ => ("DotBook$Block", "first", "LDotBook$Line;", false)
def mt_6 : Nat → FieldType := fun k => match k with
  | 0 => .object "DotBook$Kind"
  | 1 => .array .byte
  | 2 => .array .byte
  | 3 => .int
  | _ => .object "DotBook$Line"
def mf_7 : u_T := fun k => match k with
  | 0 => ("DotBookModel", "thrown", "I", false)
  | 1 => ("DotBookModel", "width", "I", false)
  | 2 => ("DotBookModel", "height", "I", false)
  | 3 => ("DotBookModel", "typedLength", "I", false)
  | 4 => ("DotBookModel", "typed", "[C", false)
  | 5 => ("DotBookModel", "count", "I", false)
  | 6 => ("DotBookModel", "kinds", "[I", false)
  | 7 => ("DotBookModel", "letterCount", "[I", false)
  | 8 => ("DotBookModel", "letters", "[C", false)
  | 9 => ("DotBookModel", "cellCount", "[I", false)
  | 10 => ("DotBookModel", "ruleCells", "[I", false)
  | 11 => ("DotBookModel", "wrong", "I", false)
  | 12 => ("DotBookModel", "blocks", "I", false)
  | 13 => ("DotBookModel", "blockKind", "[I", false)
  | 14 => ("DotBookModel", "sizes", "[I", false)
  | 15 => ("DotBookModel", "cells", "[I", false)
  | 16 => ("DotBookModel", "origins", "[I", false)
  | 17 => ("DotBookModel", "heardLength", "I", false)
  | 18 => ("DotBookModel", "heard", "[C", false)
  | 19 => ("DotBookModel", "rowLength", "I", false)
  | 20 => ("DotBookModel", "row", "[I", false)
  | 21 => ("DotBookModel", "page", "I", false)
  | 22 => ("DotBookModel", "line", "I", false)
  | 23 => ("DotBookModel", "last", "I", false)
  | 24 => ("DotBookModel", "wantedPage", "I", false)
  | 25 => ("DotBookModel", "wantedLine", "I", false)
  | 26 => ("DotBookModel", "wanted", "[I", false)
  | 27 => ("DotBookModel", "places", "[I", false)
  | _ => ("DotBookModel", "tall", "I", false)
def mt_7 : Nat → FieldType := fun k => match k with
  | 0 => .int
  | 1 => .int
  | 2 => .int
  | 3 => .int
  | 4 => .array .char
  | 5 => .int
  | 6 => .array .int
  | 7 => .array .int
  | 8 => .array .char
  | 9 => .array .int
  | 10 => .array .int
  | 11 => .int
  | 12 => .int
  | 13 => .array .int
  | 14 => .array .int
  | 15 => .array .int
  | 16 => .array .int
  | 17 => .int
  | 18 => .array .char
  | 19 => .int
  | 20 => .array .int
  | 21 => .int
  | 22 => .int
  | 23 => .int
  | 24 => .int
  | 25 => .int
  | 26 => .array .int
  | 27 => .array .int
  | _ => .int
def mf_8 : u_T := fun k => match k with
  | _ => ("", "", "", false)
def mt_8 : Nat → FieldType := fun k => match k with
  | _ => .int
def mf_9 : u_T := fun k => match k with
  | _ => ("", "", "", false)
def mt_9 : Nat → FieldType := fun k => match k with
  | _ => .int
def mf_10 : u_T := fun k => match k with
  | _ => ("", "", "", false)
def mt_10 : Nat → FieldType := fun k => match k with
  | _ => .int
def mj_cls : List vw_C := [("DotBook", mf_0, 16), ("java/lang/StringBuilder", mf_1, 4), ("java/lang/String", mf_2, 4), ("java/util/ArrayList", mf_3, 3), ("DotBook$Line", mf_4, 5), ("DotBook$Rule", mf_5, 5), ("DotBook$Block", mf_6, 5), ("DotBookModel", mf_7, 29), ("java/lang/IllegalArgumentException", mf_8, 0), ("java/lang/IllegalStateException", mf_9, 0), ("java/lang/IndexOutOfBoundsException", mf_10, 0)]
def mj_CN (t : Nat) : String := (["DotBook", "java/lang/StringBuilder", "java/lang/String", "java/util/ArrayList", "DotBook$Line", "DotBook$Rule", "DotBook$Block", "DotBookModel", "java/lang/IllegalArgumentException", "java/lang/IllegalStateException", "java/lang/IndexOutOfBoundsException"] : List String).getD t ""
def mj_F (t : Nat) : u_T := ([mf_0, mf_1, mf_2, mf_3, mf_4, mf_5, mf_6, mf_7, mf_8, mf_9, mf_10] : List u_T).getD t mf_8
def mj_ty (t : Nat) : Nat → FieldType := ([mt_0, mt_1, mt_2, mt_3, mt_4, mt_5, mt_6, mt_7, mt_8, mt_9, mt_10] : List (Nat → FieldType)).getD t mt_8
def mj_nf (t : Nat) : Nat := ([16, 4, 4, 3, 5, 5, 5, 29, 0, 0, 0] : List Nat).getD t 0
/-- a field that holds a reference -/
def mj_rf (t k : Nat) : Bool := ([[false, false, true, true, true, false, false, true, false, true, false, true, false, false, false, true], [true, false, false, false], [true, false, false, false], [true, false, false], [true, false, false, false, false], [false, true, false, true, false], [true, true, true, false, true], [false, false, false, false, true, false, true, true, true, true, true, false, false, true, true, true, true, false, true, false, true, false, false, false, false, false, true, true, false], [], [], []] : List (List Bool)).getD t [] |>.getD k false
theorem mj_cls_at : ∀ t, t < 11 → mj_cls[t]? = some (mj_CN t, mj_F t, mj_nf t) := by
  intro t h
  rcases (show t = 0 ∨ t = 1 ∨ t = 2 ∨ t = 3 ∨ t = 4 ∨ t = 5 ∨ t = 6 ∨ t = 7 ∨ t = 8 ∨ t = 9 ∨ t = 10 by omega) with rfl | rfl | rfl | rfl | rfl | rfl | rfl | rfl | rfl | rfl | rfl <;> rfl
theorem mj_tyok : ∀ t, t < 11 → ∀ k, k < mj_nf t → parseFieldDescriptor (mj_F t k).2.2.1 = some (mj_ty t k) := by decide +kernel
theorem mj_nmok : ∀ t, t < 11 → ∀ a, a < mj_nf t → ∀ b, b < mj_nf t → a ≠ b → (mj_F t a).2.1 ≠ (mj_F t b).2.1 := by decide +kernel
theorem mj_rfok : ∀ t, t < 11 → ∀ k, k < mj_nf t → mj_rf t k = (match mj_ty t k with | .object _ => true | .array _ => true | _ => false) := by decide +kernel
/-- words that stay true as the tables warm -/
def mj_mv : Cond → Bool
  | .arrayClass _ => true
  | .fieldLinkNest .. => true
  | .methodLinkNest .. => true
  | w => w.onTables && w.keepsFace
theorem mj_mv_of {w : Cond} (h : mj_mv w = true) {A : Array Value} {U : State} (hb : w.before A U = true) : va_Nw w U := by
  cases w <;> first | exact hb | (refine va_Nw.of ?_ hb; first | rfl | (simp only [mj_mv, Bool.and_eq_true] at h; exact h.1))
theorem mj_mv_use {w : Cond} (h : mj_mv w = true) {A : Array Value} {U : State} (hb : va_Nw w U) : w.before A U = true := by
  cases w <;> first | exact hb | (refine va_Nw.use ?_ hb; first | rfl | (simp only [mj_mv, Bool.and_eq_true] at h; exact h.1))
theorem mj_mv_warm {w : Cond} (h : mj_mv w = true) {s U : State} (hW : s.WarmedH U.vm) (hb : va_Nw w s) : va_Nw w U := by
  cases w
  case fieldLinkNest => exact va_Nw.warmF hW hb
  case methodLinkNest => exact va_Nw.warmM hW hb
  case arrayClass ty =>
    have h1 : (Cond.arrayClass ty).before #[] (s.setVm U.vm) = true := Cond.before_shiftedFace (State.Shifted.of_warmed hW) _ rfl hb
    exact h1
  all_goals
    simp only [mj_mv, Bool.and_eq_true] at h
    exact va_tabs h.1 (rfl : (s.setVm U.vm).vm = U.vm) (Cond.before_shiftedFace (State.Shifted.of_warmed hW) _ h.2 hb)
def mj_has (w : Cond) : Bool := decide (w ∈ lw_tbl) && mj_mv w
theorem mj_wsok : ∀ t, t < 11 → (u_ws (mj_CN t) (mj_F t) (mj_nf t)).all mj_has = true := by decide +kernel
