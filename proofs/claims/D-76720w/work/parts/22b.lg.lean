/-! how many slots the arguments take -/
theorem lg_sl_nil : lg_sl [] = [] := rfl
theorem lg_sl_1 {v : Value} {vs : List Value} (h : v.category = 1) : (lg_sl (v :: vs)).length = (lg_sl vs).length + 1 := by
  unfold lg_sl
  rw [List.flatMap_cons, if_neg (by rw [h]; decide)]
  simp [Nat.add_comm]
theorem lg_sl_2 {v : Int64} {vs : List Value} : (lg_sl (.long v :: vs)).length = (lg_sl vs).length + 2 := by
  unfold lg_sl
  rw [List.flatMap_cons, if_pos (show (Value.long v).category = 2 from rfl)]
  simp
theorem lg_sl_i {v : Int32} {vs : List Value} : (lg_sl (.int v :: vs)).length = (lg_sl vs).length + 1 := lg_sl_1 rfl
theorem lg_sl_r {v : Option Nat} {vs : List Value} : (lg_sl (va_rf v :: vs)).length = (lg_sl vs).length + 1 := lg_sl_1 (va_rf_cat v)
theorem lg_sl_a {v : Nat} {vs : List Value} : (lg_sl (.ref v :: vs)).length = (lg_sl vs).length + 1 := lg_sl_1 rfl
theorem lg_sl_f {v : UInt32} {vs : List Value} : (lg_sl (.float v :: vs)).length = (lg_sl vs).length + 1 := lg_sl_1 rfl
theorem lg_sl_0 : (lg_sl []).length = 0 := rfl
theorem cat_i {v : Int32} : (Value.int v).category = 1 := rfl
theorem cat_l {v : Int64} : (Value.long v).category = 2 := rfl
theorem cat_a {v : Nat} : (Value.ref v).category = 1 := rfl
theorem cat_f {v : UInt32} : (Value.float v).category = 1 := rfl
theorem lv_args_1 {i : Nat} {v : Value} {vs : List Value} (h : v.category = 1) : lv_args i (v :: vs) = (i, v) :: lv_args (i + 1) vs := by
  show (i, v) :: lv_args (if v.category = 2 then i + 2 else i + 1) vs = _
  rw [if_neg (by rw [h]; decide)]
theorem lv_args_i {i : Nat} {v : Int32} {vs : List Value} : lv_args i (.int v :: vs) = (i, .int v) :: lv_args (i + 1) vs := lv_args_1 rfl
theorem lv_args_r {i : Nat} {v : Option Nat} {vs : List Value} : lv_args i (va_rf v :: vs) = (i, va_rf v) :: lv_args (i + 1) vs := lv_args_1 (va_rf_cat v)
theorem lv_args_a {i : Nat} {v : Nat} {vs : List Value} : lv_args i (.ref v :: vs) = (i, .ref v) :: lv_args (i + 1) vs := lv_args_1 rfl
theorem lv_args_f {i : Nat} {v : UInt32} {vs : List Value} : lv_args i (.float v :: vs) = (i, .float v) :: lv_args (i + 1) vs := lv_args_1 rfl
theorem lv_args_l {i : Nat} {v : Int64} {vs : List Value} : lv_args i (.long v :: vs) = (i, .long v) :: lv_args (i + 2) vs := rfl
theorem lv_args_0 {i : Nat} : lv_args i [] = [] := rfl
theorem va_rf_S {a : Nat} : va_rf (some a) = .ref a := rfl
theorem fin4_0 : ((0 : Fin 4) : Nat) = 0 := rfl
theorem fin4_1 : ((1 : Fin 4) : Nat) = 1 := rfl
theorem fin4_2 : ((2 : Fin 4) : Nat) = 2 := rfl
theorem fin4_3 : ((3 : Fin 4) : Nat) = 3 := rfl
