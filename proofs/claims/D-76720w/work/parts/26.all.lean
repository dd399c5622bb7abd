/-! ALL METHODS: the table of bodies, by depth; each meets its contract (printed by tools/wpall.py) -/
set_option maxRecDepth 100000
abbrev BT : Type := CT → Nat × Nat → List Value → HS → QT → ET → Prop
def be_J4_init : BT := fun cl lm args h Q E => ∃ x0 : Nat, args = [.ref x0] ∧ wb_J4_init cl lm Q E x0 h
def be_J5_afterNodeAccess : BT := fun cl lm args h Q E => ∃ x0 : Nat, ∃ x1 : Option Nat, args = [.ref x0, va_rf x1] ∧ wb_J5_afterNodeAccess cl lm Q E x0 x1 h
def be_J5_afterNodeInsertion : BT := fun cl lm args h Q E => ∃ x0 : Nat, ∃ x1 : Int32, args = [.ref x0, .int x1] ∧ wb_J5_afterNodeInsertion cl lm Q E x0 x1 h
def be_J5_containsKey : BT := fun cl lm args h Q E => ∃ x0 : Nat, ∃ x1 : Option Nat, args = [.ref x0, va_rf x1] ∧ wb_J5_containsKey cl lm Q E x0 x1 h
def be_J5_get : BT := fun cl lm args h Q E => ∃ x0 : Nat, ∃ x1 : Option Nat, args = [.ref x0, va_rf x1] ∧ wb_J5_get cl lm Q E x0 x1 h
def be_J5_getNode : BT := fun cl lm args h Q E => ∃ x0 : Nat, ∃ x1 : Option Nat, args = [.ref x0, va_rf x1] ∧ wb_J5_getNode cl lm Q E x0 x1 h
def be_J5_hash : BT := fun cl lm args h Q E => ∃ x0 : Option Nat, args = [va_rf x0] ∧ wb_J5_hash cl lm Q E x0 h
def be_J5_init : BT := fun cl lm args h Q E => ∃ x0 : Nat, args = [.ref x0] ∧ wb_J5_init cl lm Q E x0 h
def be_J5_newNode : BT := fun cl lm args h Q E => ∃ x0 : Nat, ∃ x1 : Int32, ∃ x2 : Option Nat, ∃ x3 : Option Nat, ∃ x4 : Option Nat, args = [.ref x0, .int x1, va_rf x2, va_rf x3, va_rf x4] ∧ wb_J5_newNode cl lm Q E x0 x1 x2 x3 x4 h
def be_J5_put : BT := fun cl lm args h Q E => ∃ x0 : Nat, ∃ x1 : Option Nat, ∃ x2 : Option Nat, args = [.ref x0, va_rf x1, va_rf x2] ∧ wb_J5_put cl lm Q E x0 x1 x2 h
def be_J5_putVal : BT := fun cl lm args h Q E => ∃ x0 : Nat, ∃ x1 : Int32, ∃ x2 : Option Nat, ∃ x3 : Option Nat, ∃ x4 : Int32, ∃ x5 : Int32, args = [.ref x0, .int x1, va_rf x2, va_rf x3, .int x4, .int x5] ∧ wb_J5_putVal cl lm Q E x0 x1 x2 x3 x4 x5 h
def be_J5_resize : BT := fun cl lm args h Q E => ∃ x0 : Nat, args = [.ref x0] ∧ wb_J5_resize cl lm Q E x0 h
def be_J5_size : BT := fun cl lm args h Q E => ∃ x0 : Nat, args = [.ref x0] ∧ wb_J5_size cl lm Q E x0 h
def be_J5_treeifyBin : BT := fun cl lm args h Q E => ∃ x0 : Nat, ∃ x1 : Option Nat, ∃ x2 : Int32, args = [.ref x0, va_rf x1, .int x2] ∧ wb_J5_treeifyBin cl lm Q E x0 x1 x2 h
def be_J6_afterNodeAccess : BT := fun cl lm args h Q E => ∃ x0 : Nat, ∃ x1 : Option Nat, args = [.ref x0, va_rf x1] ∧ wb_J6_afterNodeAccess cl lm Q E x0 x1 h
def be_J6_afterNodeInsertion : BT := fun cl lm args h Q E => ∃ x0 : Nat, ∃ x1 : Int32, args = [.ref x0, .int x1] ∧ wb_J6_afterNodeInsertion cl lm Q E x0 x1 h
def be_J6_get : BT := fun cl lm args h Q E => ∃ x0 : Nat, ∃ x1 : Option Nat, args = [.ref x0, va_rf x1] ∧ wb_J6_get cl lm Q E x0 x1 h
def be_J6_init : BT := fun cl lm args h Q E => ∃ x0 : Nat, args = [.ref x0] ∧ wb_J6_init cl lm Q E x0 h
def be_J6_keySet : BT := fun cl lm args h Q E => ∃ x0 : Nat, args = [.ref x0] ∧ wb_J6_keySet cl lm Q E x0 h
def be_J6_linkNodeAtEnd : BT := fun cl lm args h Q E => ∃ x0 : Nat, ∃ x1 : Option Nat, args = [.ref x0, va_rf x1] ∧ wb_J6_linkNodeAtEnd cl lm Q E x0 x1 h
def be_J6_newNode : BT := fun cl lm args h Q E => ∃ x0 : Nat, ∃ x1 : Int32, ∃ x2 : Option Nat, ∃ x3 : Option Nat, ∃ x4 : Option Nat, args = [.ref x0, .int x1, va_rf x2, va_rf x3, va_rf x4] ∧ wb_J6_newNode cl lm Q E x0 x1 x2 x3 x4 h
def be_J6_removeEldestEntry : BT := fun cl lm args h Q E => ∃ x0 : Nat, ∃ x1 : Option Nat, args = [.ref x0, va_rf x1] ∧ wb_J6_removeEldestEntry cl lm Q E x0 x1 h
def be_J6_sequencedKeySet : BT := fun cl lm args h Q E => ∃ x0 : Nat, args = [.ref x0] ∧ wb_J6_sequencedKeySet cl lm Q E x0 h
def be_J8_compare : BT := fun cl lm args h Q E => ∃ x0 : Int32, ∃ x1 : Int32, args = [.int x0, .int x1] ∧ wb_J8_compare cl lm Q E x0 x1 h
def be_J8_compareTo : BT := fun cl lm args h Q E => ∃ x0 : Nat, ∃ x1 : Option Nat, args = [.ref x0, va_rf x1] ∧ wb_J8_compareTo cl lm Q E x0 x1 h
def be_J8_compareTo_2 : BT := fun cl lm args h Q E => ∃ x0 : Nat, ∃ x1 : Option Nat, args = [.ref x0, va_rf x1] ∧ wb_J8_compareTo_2 cl lm Q E x0 x1 h
def be_J8_equals : BT := fun cl lm args h Q E => ∃ x0 : Nat, ∃ x1 : Option Nat, args = [.ref x0, va_rf x1] ∧ wb_J8_equals cl lm Q E x0 x1 h
def be_J8_hashCode : BT := fun cl lm args h Q E => ∃ x0 : Nat, args = [.ref x0] ∧ wb_J8_hashCode cl lm Q E x0 h
def be_J8_hashCode_2 : BT := fun cl lm args h Q E => ∃ x0 : Int32, args = [.int x0] ∧ wb_J8_hashCode_2 cl lm Q E x0 h
def be_J8_init : BT := fun cl lm args h Q E => ∃ x0 : Nat, ∃ x1 : Int32, args = [.ref x0, .int x1] ∧ wb_J8_init cl lm Q E x0 x1 h
def be_J8_intValue : BT := fun cl lm args h Q E => ∃ x0 : Nat, args = [.ref x0] ∧ wb_J8_intValue cl lm Q E x0 h
def be_J9_getKey : BT := fun cl lm args h Q E => ∃ x0 : Nat, args = [.ref x0] ∧ wb_J9_getKey cl lm Q E x0 h
def be_J9_init : BT := fun cl lm args h Q E => ∃ x0 : Nat, ∃ x1 : Int32, ∃ x2 : Option Nat, ∃ x3 : Option Nat, ∃ x4 : Option Nat, args = [.ref x0, .int x1, va_rf x2, va_rf x3, va_rf x4] ∧ wb_J9_init cl lm Q E x0 x1 x2 x3 x4 h
def be_J10_init : BT := fun cl lm args h Q E => ∃ x0 : Nat, ∃ x1 : Int32, ∃ x2 : Option Nat, ∃ x3 : Option Nat, ∃ x4 : Option Nat, args = [.ref x0, .int x1, va_rf x2, va_rf x3, va_rf x4] ∧ wb_J10_init cl lm Q E x0 x1 x2 x3 x4 h
def be_J12_init : BT := fun cl lm args h Q E => ∃ x0 : Nat, args = [.ref x0] ∧ wb_J12_init cl lm Q E x0 h
def be_J13_init : BT := fun cl lm args h Q E => ∃ x0 : Nat, args = [.ref x0] ∧ wb_J13_init cl lm Q E x0 h
def be_J14_init : BT := fun cl lm args h Q E => ∃ x0 : Nat, ∃ x1 : Option Nat, ∃ x2 : Int32, args = [.ref x0, va_rf x1, .int x2] ∧ wb_J14_init cl lm Q E x0 x1 x2 h
def be_J14_iterator : BT := fun cl lm args h Q E => ∃ x0 : Nat, args = [.ref x0] ∧ wb_J14_iterator cl lm Q E x0 h
def be_J18_hasNext : BT := fun cl lm args h Q E => ∃ x0 : Nat, args = [.ref x0] ∧ wb_J18_hasNext cl lm Q E x0 h
def be_J18_init : BT := fun cl lm args h Q E => ∃ x0 : Nat, ∃ x1 : Option Nat, ∃ x2 : Int32, args = [.ref x0, va_rf x1, .int x2] ∧ wb_J18_init cl lm Q E x0 x1 x2 h
def be_J18_nextNode : BT := fun cl lm args h Q E => ∃ x0 : Nat, args = [.ref x0] ∧ wb_J18_nextNode cl lm Q E x0 h
def be_J19_init : BT := fun cl lm args h Q E => ∃ x0 : Nat, ∃ x1 : Option Nat, ∃ x2 : Int32, args = [.ref x0, va_rf x1, .int x2] ∧ wb_J19_init cl lm Q E x0 x1 x2 h
def be_J19_next : BT := fun cl lm args h Q E => ∃ x0 : Nat, args = [.ref x0] ∧ wb_J19_next cl lm Q E x0 h
def be_J23_add : BT := fun cl lm args h Q E => ∃ x0 : Nat, ∃ x1 : Option Nat, args = [.ref x0, va_rf x1] ∧ wb_J23_add cl lm Q E x0 x1 h
def be_J23_init : BT := fun cl lm args h Q E => ∃ x0 : Nat, args = [.ref x0] ∧ wb_J23_init cl lm Q E x0 h
def be_J23_iterator : BT := fun cl lm args h Q E => ∃ x0 : Nat, args = [.ref x0] ∧ wb_J23_iterator cl lm Q E x0 h
def be_J23_size : BT := fun cl lm args h Q E => ∃ x0 : Nat, args = [.ref x0] ∧ wb_J23_size cl lm Q E x0 h
def be_X0_act : BT := fun cl lm args h Q E => ∃ x0 : Nat, ∃ x1 : Int32, ∃ x2 : Int32, ∃ x3 : Int32, ∃ x4 : Int32, args = [.ref x0, .int x1, .int x2, .int x3, .int x4] ∧ wb_X0_act cl lm Q E x0 x1 x2 x3 x4 h
def be_X0_at : BT := fun cl lm args h Q E => ∃ x0 : Nat, ∃ x1 : Int32, args = [.ref x0, .int x1] ∧ wb_X0_at cl lm Q E x0 x1 h
def be_X0_below : BT := fun cl lm args h Q E => ∃ x0 : Nat, ∃ x1 : Int32, args = [.ref x0, .int x1] ∧ wb_X0_below cl lm Q E x0 x1 h
def be_X0_belowTold : BT := fun cl lm args h Q E => ∃ x0 : Nat, ∃ x1 : Int32, args = [.ref x0, .int x1] ∧ wb_X0_belowTold cl lm Q E x0 x1 h
def be_X0_by : BT := fun cl lm args h Q E => ∃ x0 : Option Nat, ∃ x1 : Option Nat, ∃ x2 : Int32, ∃ x3 : Option Nat, args = [va_rf x0, va_rf x1, .int x2, va_rf x3] ∧ wb_X0_by cl lm Q E x0 x1 x2 x3 h
def be_X0_changed : BT := fun cl lm args h Q E => ∃ x0 : Option Nat, ∃ x1 : Int32, ∃ x2 : Option Nat, args = [va_rf x0, .int x1, va_rf x2] ∧ wb_X0_changed cl lm Q E x0 x1 x2 h
def be_X0_check : BT := fun cl lm args h Q E => ∃ x0 : Nat, args = [.ref x0] ∧ wb_X0_check cl lm Q E x0 h
def be_X0_clear : BT := fun cl lm args h Q E => ∃ x0 : Nat, args = [.ref x0] ∧ wb_X0_clear cl lm Q E x0 h
def be_X0_clearIt : BT := fun cl lm args h Q E => ∃ x0 : Nat, args = [.ref x0] ∧ wb_X0_clearIt cl lm Q E x0 h
def be_X0_coded : BT := fun cl lm args h Q E => ∃ x0 : Nat, ∃ x1 : Int32, args = [.ref x0, .int x1] ∧ wb_X0_coded cl lm Q E x0 x1 h
def be_X0_codedTold : BT := fun cl lm args h Q E => ∃ x0 : Nat, ∃ x1 : Int32, args = [.ref x0, .int x1] ∧ wb_X0_codedTold cl lm Q E x0 x1 h
def be_X0_count : BT := fun cl lm args h Q E => ∃ x0 : Nat, ∃ x1 : Int32, args = [.ref x0, .int x1] ∧ wb_X0_count cl lm Q E x0 x1 h
def be_X0_different : BT := fun cl lm args h Q E => ∃ x0 : Nat, args = [.ref x0] ∧ wb_X0_different cl lm Q E x0 h
def be_X0_differentOnes : BT := fun cl lm args h Q E => ∃ x0 : Nat, args = [.ref x0] ∧ wb_X0_differentOnes cl lm Q E x0 h
def be_X0_divisor : BT := fun cl lm args h Q E => ∃ x0 : Int64, ∃ x2 : Int64, args = [.long x0, .long x2] ∧ wb_X0_divisor cl lm Q E x0 x2 h
def be_X0_drawn : BT := fun cl lm args h Q E => ∃ x0 : Nat, ∃ x1 : Int32, args = [.ref x0, .int x1] ∧ wb_X0_drawn cl lm Q E x0 x1 h
def be_X0_drops : BT := fun cl lm args h Q E => ∃ x0 : Nat, ∃ x1 : Int32, args = [.ref x0, .int x1] ∧ wb_X0_drops cl lm Q E x0 x1 h
def be_X0_eitherLook : BT := fun cl lm args h Q E => ∃ x0 : Option Nat, ∃ x1 : Option Nat, args = [va_rf x0, va_rf x1] ∧ wb_X0_eitherLook cl lm Q E x0 x1 h
def be_X0_far : BT := fun cl lm args h Q E => ∃ x0 : Nat, ∃ x1 : Option Nat, args = [.ref x0, va_rf x1] ∧ wb_X0_far cl lm Q E x0 x1 h
def be_X0_fault : BT := fun cl lm args h Q E => ∃ x0 : Nat, ∃ x1 : Int32, ∃ x2 : Int32, args = [.ref x0, .int x1, .int x2] ∧ wb_X0_fault cl lm Q E x0 x1 x2 h
def be_X0_faultTold : BT := fun cl lm args h Q E => ∃ x0 : Nat, ∃ x1 : Int32, ∃ x2 : Int32, args = [.ref x0, .int x1, .int x2] ∧ wb_X0_faultTold cl lm Q E x0 x1 x2 h
def be_X0_faults : BT := fun cl lm args h Q E => ∃ x0 : Nat, args = [.ref x0] ∧ wb_X0_faults cl lm Q E x0 h
def be_X0_findingWith : BT := fun cl lm args h Q E => ∃ x0 : Nat, ∃ x1 : Int32, ∃ x2 : Int32, args = [.ref x0, .int x1, .int x2] ∧ wb_X0_findingWith cl lm Q E x0 x1 x2 h
def be_X0_first : BT := fun cl lm args h Q E => ∃ x0 : Nat, args = [.ref x0] ∧ wb_X0_first cl lm Q E x0 h
def be_X0_found : BT := fun cl lm args h Q E => ∃ x0 : Nat, args = [.ref x0] ∧ wb_X0_found cl lm Q E x0 h
def be_X0_foundWith : BT := fun cl lm args h Q E => ∃ x0 : Nat, ∃ x1 : Int32, ∃ x2 : Option Nat, args = [.ref x0, .int x1, va_rf x2] ∧ wb_X0_foundWith cl lm Q E x0 x1 x2 h
def be_X0_greatestPath : BT := fun cl lm args h Q E => ∃ x0 : Nat, args = [.ref x0] ∧ wb_X0_greatestPath cl lm Q E x0 h
def be_X0_has : BT := fun cl lm args h Q E => ∃ x0 : Int32, ∃ x1 : Int32, args = [.int x0, .int x1] ∧ wb_X0_has cl lm Q E x0 x1 h
def be_X0_hurt : BT := fun cl lm args h Q E => ∃ x0 : Nat, ∃ x1 : Int32, args = [.ref x0, .int x1] ∧ wb_X0_hurt cl lm Q E x0 x1 h
def be_X0_image : BT := fun cl lm args h Q E => ∃ x0 : Nat, args = [.ref x0] ∧ wb_X0_image cl lm Q E x0 h
def be_X0_imageIt : BT := fun cl lm args h Q E => ∃ x0 : Nat, args = [.ref x0] ∧ wb_X0_imageIt cl lm Q E x0 h
def be_X0_in : BT := fun cl lm args h Q E => ∃ x0 : Int64, ∃ x2 : Int64, ∃ x4 : Int64, args = [.long x0, .long x2, .long x4] ∧ wb_X0_in cl lm Q E x0 x2 x4 h
def be_X0_init : BT := fun cl lm args h Q E => ∃ x0 : Nat, args = [.ref x0] ∧ wb_X0_init cl lm Q E x0 h
def be_X0_isBelow : BT := fun cl lm args h Q E => ∃ x0 : Int32, ∃ x1 : Int32, args = [.int x0, .int x1] ∧ wb_X0_isBelow cl lm Q E x0 x1 h
def be_X0_isLess : BT := fun cl lm args h Q E => ∃ x0 : Option Nat, ∃ x1 : Option Nat, args = [va_rf x0, va_rf x1] ∧ wb_X0_isLess cl lm Q E x0 x1 h
def be_X0_isRowOf : BT := fun cl lm args h Q E => ∃ x0 : Nat, ∃ x1 : Option Nat, args = [.ref x0, va_rf x1] ∧ wb_X0_isRowOf cl lm Q E x0 x1 h
def be_X0_judge : BT := fun cl lm args h Q E => ∃ x0 : Nat, args = [.ref x0] ∧ wb_X0_judge cl lm Q E x0 h
def be_X0_judgeRow : BT := fun cl lm args h Q E => ∃ x0 : Nat, args = [.ref x0] ∧ wb_X0_judgeRow cl lm Q E x0 h
def be_X0_lambda_eitherLook_4 : BT := fun cl lm args h Q E => ∃ x0 : Option Nat, ∃ x1 : Option Nat, ∃ x2 : Option Nat, ∃ x3 : Int32, ∃ x4 : Option Nat, args = [va_rf x0, va_rf x1, va_rf x2, .int x3, va_rf x4] ∧ wb_X0_lambda_eitherLook_4 cl lm Q E x0 x1 x2 x3 x4 h
def be_X0_lambda_listLook_2 : BT := fun cl lm args h Q E => ∃ x0 : Int32, ∃ x1 : Int32, ∃ x2 : Option Nat, ∃ x3 : Option Nat, ∃ x4 : Int32, ∃ x5 : Option Nat, args = [.int x0, .int x1, va_rf x2, va_rf x3, .int x4, va_rf x5] ∧ wb_X0_lambda_listLook_2 cl lm Q E x0 x1 x2 x3 x4 x5 h
def be_X0_lambda_numberLook_0 : BT := fun cl lm args h Q E => ∃ x0 : Int32, ∃ x1 : Int32, ∃ x2 : Option Nat, ∃ x3 : Int32, ∃ x4 : Option Nat, args = [.int x0, .int x1, va_rf x2, .int x3, va_rf x4] ∧ wb_X0_lambda_numberLook_0 cl lm Q E x0 x1 x2 x3 x4 h
def be_X0_lambda_onceLook_3 : BT := fun cl lm args h Q E => ∃ x0 : Option Nat, ∃ x1 : Option Nat, ∃ x2 : Int32, ∃ x3 : Option Nat, args = [va_rf x0, va_rf x1, .int x2, va_rf x3] ∧ wb_X0_lambda_onceLook_3 cl lm Q E x0 x1 x2 x3 h
def be_X0_lambda_thereLook_1 : BT := fun cl lm args h Q E => ∃ x0 : Option Nat, ∃ x1 : Int32, ∃ x2 : Option Nat, ∃ x3 : Int32, ∃ x4 : Option Nat, args = [va_rf x0, .int x1, va_rf x2, .int x3, va_rf x4] ∧ wb_X0_lambda_thereLook_1 cl lm Q E x0 x1 x2 x3 x4 h
def be_X0_letter : BT := fun cl lm args h Q E => ∃ x0 : Nat, ∃ x1 : Int32, args = [.ref x0, .int x1] ∧ wb_X0_letter cl lm Q E x0 x1 h
def be_X0_letterIt : BT := fun cl lm args h Q E => ∃ x0 : Nat, ∃ x1 : Int32, args = [.ref x0, .int x1] ∧ wb_X0_letterIt cl lm Q E x0 x1 h
def be_X0_limited : BT := fun cl lm args h Q E => ∃ x0 : Nat, ∃ x1 : Int32, ∃ x2 : Int32, args = [.ref x0, .int x1, .int x2] ∧ wb_X0_limited cl lm Q E x0 x1 x2 h
def be_X0_limitedTold : BT := fun cl lm args h Q E => ∃ x0 : Nat, ∃ x1 : Int32, ∃ x2 : Int32, args = [.ref x0, .int x1, .int x2] ∧ wb_X0_limitedTold cl lm Q E x0 x1 x2 h
def be_X0_listLook : BT := fun cl lm args h Q E => ∃ x0 : Int32, ∃ x1 : Int32, ∃ x2 : Option Nat, args = [.int x0, .int x1, va_rf x2] ∧ wb_X0_listLook cl lm Q E x0 x1 x2 h
def be_X0_loss : BT := fun cl lm args h Q E => ∃ x0 : Nat, ∃ x1 : Int32, ∃ x2 : Int32, args = [.ref x0, .int x1, .int x2] ∧ wb_X0_loss cl lm Q E x0 x1 x2 h
def be_X0_lossPart : BT := fun cl lm args h Q E => ∃ x0 : Nat, ∃ x1 : Int32, ∃ x2 : Int32, args = [.ref x0, .int x1, .int x2] ∧ wb_X0_lossPart cl lm Q E x0 x1 x2 h
def be_X0_lossTold : BT := fun cl lm args h Q E => ∃ x0 : Nat, ∃ x1 : Int32, ∃ x2 : Int32, args = [.ref x0, .int x1, .int x2] ∧ wb_X0_lossTold cl lm Q E x0 x1 x2 h
def be_X0_lots : BT := fun cl lm args h Q E => ∃ x0 : Nat, ∃ x1 : Int32, ∃ x2 : Int32, ∃ x3 : Int32, args = [.ref x0, .int x1, .int x2, .int x3] ∧ wb_X0_lots cl lm Q E x0 x1 x2 x3 h
def be_X0_lotsTold : BT := fun cl lm args h Q E => ∃ x0 : Nat, ∃ x1 : Int32, ∃ x2 : Int32, ∃ x3 : Int32, args = [.ref x0, .int x1, .int x2, .int x3] ∧ wb_X0_lotsTold cl lm Q E x0 x1 x2 x3 h
def be_X0_mean : BT := fun cl lm args h Q E => ∃ x0 : Nat, ∃ x1 : Int32, args = [.ref x0, .int x1] ∧ wb_X0_mean cl lm Q E x0 x1 h
def be_X0_meanTold : BT := fun cl lm args h Q E => ∃ x0 : Nat, ∃ x1 : Int32, args = [.ref x0, .int x1] ∧ wb_X0_meanTold cl lm Q E x0 x1 h
def be_X0_mend : BT := fun cl lm args h Q E => ∃ x0 : Nat, ∃ x1 : Int32, args = [.ref x0, .int x1] ∧ wb_X0_mend cl lm Q E x0 x1 h
def be_X0_mendTold : BT := fun cl lm args h Q E => ∃ x0 : Nat, ∃ x1 : Int32, args = [.ref x0, .int x1] ∧ wb_X0_mendTold cl lm Q E x0 x1 h
def be_X0_must : BT := fun cl lm args h Q E => ∃ x0 : Int32, ∃ x1 : Int32, args = [.int x0, .int x1] ∧ wb_X0_must cl lm Q E x0 x1 h
def be_X0_mustBeBit : BT := fun cl lm args h Q E => ∃ x0 : Int32, args = [.int x0] ∧ wb_X0_mustBeBit cl lm Q E x0 h
def be_X0_numberLook : BT := fun cl lm args h Q E => ∃ x0 : Int32, ∃ x1 : Int32, args = [.int x0, .int x1] ∧ wb_X0_numberLook cl lm Q E x0 x1 h
def be_X0_numbersOf : BT := fun cl lm args h Q E => ∃ x0 : Nat, args = [.ref x0] ∧ wb_X0_numbersOf cl lm Q E x0 h
def be_X0_ofFaults : BT := fun cl lm args h Q E => ∃ x0 : Nat, ∃ x1 : Int32, ∃ x2 : Int32, ∃ x3 : Int32, args = [.ref x0, .int x1, .int x2, .int x3] ∧ wb_X0_ofFaults cl lm Q E x0 x1 x2 x3 h
def be_X0_ofRest : BT := fun cl lm args h Q E => ∃ x0 : Nat, ∃ x1 : Int32, ∃ x2 : Int32, ∃ x3 : Int32, ∃ x4 : Int32, args = [.ref x0, .int x1, .int x2, .int x3, .int x4] ∧ wb_X0_ofRest cl lm Q E x0 x1 x2 x3 x4 h
def be_X0_often : BT := fun cl lm args h Q E => ∃ x0 : Nat, ∃ x1 : Int32, args = [.ref x0, .int x1] ∧ wb_X0_often cl lm Q E x0 x1 h
def be_X0_oftenTold : BT := fun cl lm args h Q E => ∃ x0 : Nat, ∃ x1 : Int32, args = [.ref x0, .int x1] ∧ wb_X0_oftenTold cl lm Q E x0 x1 h
def be_X0_on : BT := fun cl lm args h Q E => ∃ x0 : Nat, args = [.ref x0] ∧ wb_X0_on cl lm Q E x0 h
def be_X0_onIt : BT := fun cl lm args h Q E => ∃ x0 : Nat, args = [.ref x0] ∧ wb_X0_onIt cl lm Q E x0 h
def be_X0_onceLook : BT := fun cl lm args h Q E => ∃ x0 : Option Nat, args = [va_rf x0] ∧ wb_X0_onceLook cl lm Q E x0 h
def be_X0_part : BT := fun cl lm args h Q E => ∃ x0 : Nat, ∃ x1 : Int32, ∃ x2 : Int32, args = [.ref x0, .int x1, .int x2] ∧ wb_X0_part cl lm Q E x0 x1 x2 h
def be_X0_partAsked : BT := fun cl lm args h Q E => ∃ x0 : Nat, ∃ x1 : Int32, ∃ x2 : Int32, args = [.ref x0, .int x1, .int x2] ∧ wb_X0_partAsked cl lm Q E x0 x1 x2 h
def be_X0_partOf : BT := fun cl lm args h Q E => ∃ x0 : Int64, ∃ x2 : Int64, ∃ x4 : Int32, args = [.long x0, .long x2, .int x4] ∧ wb_X0_partOf cl lm Q E x0 x2 x4 h
def be_X0_parts : BT := fun cl lm args h Q E => ∃ x0 : Nat, args = [.ref x0] ∧ wb_X0_parts cl lm Q E x0 h
def be_X0_path : BT := fun cl lm args h Q E => ∃ x0 : Nat, ∃ x1 : Int32, args = [.ref x0, .int x1] ∧ wb_X0_path cl lm Q E x0 x1 h
def be_X0_pathIn : BT := fun cl lm args h Q E => ∃ x0 : Nat, ∃ x1 : Option Nat, ∃ x2 : Int32, args = [.ref x0, va_rf x1, .int x2] ∧ wb_X0_pathIn cl lm Q E x0 x1 x2 h
def be_X0_put : BT := fun cl lm args h Q E => ∃ x0 : Nat, ∃ x1 : Int32, ∃ x2 : Option Nat, args = [.ref x0, .int x1, va_rf x2] ∧ wb_X0_put cl lm Q E x0 x1 x2 h
def be_X0_putIt : BT := fun cl lm args h Q E => ∃ x0 : Nat, ∃ x1 : Int32, ∃ x2 : Int32, args = [.ref x0, .int x1, .int x2] ∧ wb_X0_putIt cl lm Q E x0 x1 x2 h
def be_X0_puts : BT := fun cl lm args h Q E => ∃ x0 : Nat, ∃ x1 : Int32, ∃ x2 : Int32, args = [.ref x0, .int x1, .int x2] ∧ wb_X0_puts cl lm Q E x0 x1 x2 h
def be_X0_range : BT := fun cl lm args h Q E => ∃ x0 : Nat, ∃ x1 : Int32, ∃ x2 : Int32, args = [.ref x0, .int x1, .int x2] ∧ wb_X0_range cl lm Q E x0 x1 x2 h
def be_X0_rangeTold : BT := fun cl lm args h Q E => ∃ x0 : Nat, ∃ x1 : Int32, ∃ x2 : Int32, args = [.ref x0, .int x1, .int x2] ∧ wb_X0_rangeTold cl lm Q E x0 x1 x2 h
def be_X0_readCheck : BT := fun cl lm args h Q E => ∃ x0 : Nat, args = [.ref x0] ∧ wb_X0_readCheck cl lm Q E x0 h
def be_X0_readValue : BT := fun cl lm args h Q E => ∃ x0 : Nat, args = [.ref x0] ∧ wb_X0_readValue cl lm Q E x0 h
def be_X0_refuse : BT := fun cl lm args h Q E => ∃ x0 : Nat, ∃ x1 : Int32, args = [.ref x0, .int x1] ∧ wb_X0_refuse cl lm Q E x0 x1 h
def be_X0_row : BT := fun cl lm args h Q E => ∃ x0 : Nat, ∃ x1 : Int32, args = [.ref x0, .int x1] ∧ wb_X0_row cl lm Q E x0 x1 h
def be_X0_rowIt : BT := fun cl lm args h Q E => ∃ x0 : Nat, ∃ x1 : Int32, args = [.ref x0, .int x1] ∧ wb_X0_rowIt cl lm Q E x0 x1 h
def be_X0_same : BT := fun cl lm args h Q E => ∃ x0 : Nat, ∃ x1 : Int32, ∃ x2 : Int32, args = [.ref x0, .int x1, .int x2] ∧ wb_X0_same cl lm Q E x0 x1 x2 h
def be_X0_sameTold : BT := fun cl lm args h Q E => ∃ x0 : Nat, ∃ x1 : Int32, ∃ x2 : Int32, args = [.ref x0, .int x1, .int x2] ∧ wb_X0_sameTold cl lm Q E x0 x1 x2 h
def be_X0_swap : BT := fun cl lm args h Q E => ∃ x0 : Nat, ∃ x1 : Int32, ∃ x2 : Option Nat, args = [.ref x0, .int x1, va_rf x2] ∧ wb_X0_swap cl lm Q E x0 x1 x2 h
def be_X0_thereLook : BT := fun cl lm args h Q E => ∃ x0 : Int32, ∃ x1 : Option Nat, args = [.int x0, va_rf x1] ∧ wb_X0_thereLook cl lm Q E x0 x1 h
def be_X0_total : BT := fun cl lm args h Q E => ∃ x0 : Nat, args = [.ref x0] ∧ wb_X0_total cl lm Q E x0 h
def be_X0_totalTold : BT := fun cl lm args h Q E => ∃ x0 : Nat, args = [.ref x0] ∧ wb_X0_totalTold cl lm Q E x0 h
def be_X0_value : BT := fun cl lm args h Q E => ∃ x0 : Nat, args = [.ref x0] ∧ wb_X0_value cl lm Q E x0 h
def be_X0_waits : BT := fun cl lm args h Q E => ∃ x0 : Nat, args = [.ref x0] ∧ wb_X0_waits cl lm Q E x0 h
def be_X0_which : BT := fun cl lm args h Q E => ∃ x0 : Nat, ∃ x1 : Int32, args = [.ref x0, .int x1] ∧ wb_X0_which cl lm Q E x0 x1 h
def be_X0_whichTold : BT := fun cl lm args h Q E => ∃ x0 : Nat, ∃ x1 : Int32, args = [.ref x0, .int x1] ∧ wb_X0_whichTold cl lm Q E x0 x1 h
def be_X0_within : BT := fun cl lm args h Q E => ∃ x0 : Int64, ∃ x2 : Int64, ∃ x4 : Int64, args = [.long x0, .long x2, .long x4] ∧ wb_X0_within cl lm Q E x0 x2 x4 h
def be_X0_without : BT := fun cl lm args h Q E => ∃ x0 : Nat, ∃ x1 : Int32, args = [.ref x0, .int x1] ∧ wb_X0_without cl lm Q E x0 x1 h
def be_X0_withoutTold : BT := fun cl lm args h Q E => ∃ x0 : Nat, ∃ x1 : Int32, args = [.ref x0, .int x1] ∧ wb_X0_withoutTold cl lm Q E x0 x1 h
def be_X1_init : BT := fun cl lm args h Q E => ∃ x0 : Nat, args = [.ref x0] ∧ wb_X1_init cl lm Q E x0 h
def be_X1_layAll : BT := fun cl lm args h Q E => ∃ x0 : Nat, ∃ x1 : Option Nat, ∃ x2 : Int32, args = [.ref x0, va_rf x1, .int x2] ∧ wb_X1_layAll cl lm Q E x0 x1 x2 h
def be_X2_equals : BT := fun cl lm args h Q E => ∃ x0 : Nat, ∃ x1 : Option Nat, args = [.ref x0, va_rf x1] ∧ wb_X2_equals cl lm Q E x0 x1 h
def be_X2_hashCode : BT := fun cl lm args h Q E => ∃ x0 : Nat, args = [.ref x0] ∧ wb_X2_hashCode cl lm Q E x0 h
def be_X2_init : BT := fun cl lm args h Q E => ∃ x0 : Nat, ∃ x1 : Int32, args = [.ref x0, .int x1] ∧ wb_X2_init cl lm Q E x0 x1 h
def be_X2_kind : BT := fun cl lm args h Q E => ∃ x0 : Nat, args = [.ref x0] ∧ wb_X2_kind cl lm Q E x0 h
def be_X2_lay : BT := fun cl lm args h Q E => ∃ x0 : Nat, ∃ x1 : Option Nat, ∃ x2 : Int32, args = [.ref x0, va_rf x1, .int x2] ∧ wb_X2_lay cl lm Q E x0 x1 x2 h
def be_X2_many : BT := fun cl lm args h Q E => ∃ x0 : Nat, args = [.ref x0] ∧ wb_X2_many cl lm Q E x0 h
def be_X2_size : BT := fun cl lm args h Q E => ∃ x0 : Nat, args = [.ref x0] ∧ wb_X2_size cl lm Q E x0 h
def be_X2_step : BT := fun cl lm args h Q E => ∃ x0 : Nat, ∃ x1 : Int32, args = [.ref x0, .int x1] ∧ wb_X2_step cl lm Q E x0 x1 h
def be_X2_total : BT := fun cl lm args h Q E => ∃ x0 : Nat, args = [.ref x0] ∧ wb_X2_total cl lm Q E x0 h
def be_X2_with : BT := fun cl lm args h Q E => ∃ x0 : Nat, ∃ x1 : Int32, ∃ x2 : Option Nat, args = [.ref x0, .int x1, va_rf x2] ∧ wb_X2_with cl lm Q E x0 x1 x2 h
def be_X3_again : BT := fun cl lm args h Q E => ∃ x0 : Nat, args = [.ref x0] ∧ wb_X3_again cl lm Q E x0 h
def be_X3_init : BT := fun cl lm args h Q E => ∃ x0 : Nat, args = [.ref x0] ∧ wb_X3_init cl lm Q E x0 h
def be_X3_lambda_again_1 : BT := fun cl lm args h Q E => ∃ x0 : Nat, ∃ x1 : Option Nat, ∃ x2 : Int32, ∃ x3 : Option Nat, args = [.ref x0, va_rf x1, .int x2, va_rf x3] ∧ wb_X3_lambda_again_1 cl lm Q E x0 x1 x2 x3 h
def be_X3_lambda_new_0 : BT := fun cl lm args h Q E => ∃ x0 : Option Nat, ∃ x1 : Int32, ∃ x2 : Option Nat, args = [va_rf x0, .int x1, va_rf x2] ∧ wb_X3_lambda_new_0 cl lm Q E x0 x1 x2 h
def be_X3_of : BT := fun cl lm args h Q E => ∃ x0 : Nat, ∃ x1 : Option Nat, args = [.ref x0, va_rf x1] ∧ wb_X3_of cl lm Q E x0 x1 h
def be_X4_emptied : BT := fun cl lm args h Q E => ∃ x0 : Nat, args = [.ref x0] ∧ wb_X4_emptied cl lm Q E x0 h
def be_X4_finding : BT := fun cl lm args h Q E => ∃ x0 : Nat, args = [.ref x0] ∧ wb_X4_finding cl lm Q E x0 h
def be_X4_found : BT := fun cl lm args h Q E => ∃ x0 : Nat, ∃ x1 : Int32, ∃ x2 : Int32, args = [.ref x0, .int x1, .int x2] ∧ wb_X4_found cl lm Q E x0 x1 x2 h
def be_X4_init : BT := fun cl lm args h Q E => ∃ x0 : Nat, args = [.ref x0] ∧ wb_X4_init cl lm Q E x0 h
def be_X5_equals : BT := fun cl lm args h Q E => ∃ x0 : Nat, ∃ x1 : Option Nat, args = [.ref x0, va_rf x1] ∧ wb_X5_equals cl lm Q E x0 x1 h
def be_X5_hashCode : BT := fun cl lm args h Q E => ∃ x0 : Nat, args = [.ref x0] ∧ wb_X5_hashCode cl lm Q E x0 h
def be_X5_init : BT := fun cl lm args h Q E => ∃ x0 : Nat, args = [.ref x0] ∧ wb_X5_init cl lm Q E x0 h
def be_X5_kind : BT := fun cl lm args h Q E => ∃ x0 : Nat, args = [.ref x0] ∧ wb_X5_kind cl lm Q E x0 h
def be_X5_lay : BT := fun cl lm args h Q E => ∃ x0 : Nat, ∃ x1 : Option Nat, ∃ x2 : Int32, args = [.ref x0, va_rf x1, .int x2] ∧ wb_X5_lay cl lm Q E x0 x1 x2 h
def be_X5_many : BT := fun cl lm args h Q E => ∃ x0 : Nat, args = [.ref x0] ∧ wb_X5_many cl lm Q E x0 h
def be_X5_size : BT := fun cl lm args h Q E => ∃ x0 : Nat, args = [.ref x0] ∧ wb_X5_size cl lm Q E x0 h
def be_X5_step : BT := fun cl lm args h Q E => ∃ x0 : Nat, ∃ x1 : Int32, args = [.ref x0, .int x1] ∧ wb_X5_step cl lm Q E x0 x1 h
def be_X5_total : BT := fun cl lm args h Q E => ∃ x0 : Nat, args = [.ref x0] ∧ wb_X5_total cl lm Q E x0 h
def be_X5_with : BT := fun cl lm args h Q E => ∃ x0 : Nat, ∃ x1 : Int32, ∃ x2 : Option Nat, args = [.ref x0, .int x1, va_rf x2] ∧ wb_X5_with cl lm Q E x0 x1 x2 h
def be_X6_init : BT := fun cl lm args h Q E => ∃ x0 : Nat, args = [.ref x0] ∧ wb_X6_init cl lm Q E x0 h
def be_X6_isHolding : BT := fun cl lm args h Q E => ∃ x0 : Nat, ∃ x1 : Int32, args = [.ref x0, .int x1] ∧ wb_X6_isHolding cl lm Q E x0 x1 h
def be_X6_many : BT := fun cl lm args h Q E => ∃ x0 : Nat, ∃ x1 : Int32, args = [.ref x0, .int x1] ∧ wb_X6_many cl lm Q E x0 x1 h
def be_X6_measures : BT := fun cl lm args h Q E => ∃ x0 : Nat, args = [.ref x0] ∧ wb_X6_measures cl lm Q E x0 h
def be_X8_init : BT := fun cl lm args h Q E => ∃ x0 : Nat, ∃ x1 : Int32, args = [.ref x0, .int x1] ∧ wb_X8_init cl lm Q E x0 x1 h
def be_X8_number : BT := fun cl lm args h Q E => ∃ x0 : Nat, args = [.ref x0] ∧ wb_X8_number cl lm Q E x0 h
def be_X9_check : BT := fun cl lm args h Q E => ∃ x0 : Nat, ∃ x1 : Option Nat, ∃ x2 : Int32, args = [.ref x0, va_rf x1, .int x2] ∧ wb_X9_check cl lm Q E x0 x1 x2 h
def be_X9_digit : BT := fun cl lm args h Q E => ∃ x0 : Nat, args = [.ref x0] ∧ wb_X9_digit cl lm Q E x0 h
def be_X9_end : BT := fun cl lm args h Q E => ∃ x0 : Nat, args = [.ref x0] ∧ wb_X9_end cl lm Q E x0 h
def be_X9_here : BT := fun cl lm args h Q E => ∃ x0 : Nat, args = [.ref x0] ∧ wb_X9_here cl lm Q E x0 h
def be_X9_init : BT := fun cl lm args h Q E => ∃ x0 : Nat, ∃ x1 : Option Nat, args = [.ref x0, va_rf x1] ∧ wb_X9_init cl lm Q E x0 x1 h
def be_X9_lambda_check_0 : BT := fun cl lm args h Q E => ∃ x0 : Option Nat, ∃ x1 : Int32, ∃ x2 : Option Nat, args = [va_rf x0, .int x1, va_rf x2] ∧ wb_X9_lambda_check_0 cl lm Q E x0 x1 x2 h
def be_X9_lambda_record_1 : BT := fun cl lm args h Q E => ∃ x0 : Option Nat, ∃ x1 : Option Nat, args = [va_rf x0, va_rf x1] ∧ wb_X9_lambda_record_1 cl lm Q E x0 x1 h
def be_X9_lambda_record_2 : BT := fun cl lm args h Q E => ∃ x0 : Option Nat, ∃ x1 : Option Nat, args = [va_rf x0, va_rf x1] ∧ wb_X9_lambda_record_2 cl lm Q E x0 x1 h
def be_X9_list : BT := fun cl lm args h Q E => ∃ x0 : Nat, ∃ x1 : Int32, args = [.ref x0, .int x1] ∧ wb_X9_list cl lm Q E x0 x1 h
def be_X9_mustStand : BT := fun cl lm args h Q E => ∃ x0 : Nat, ∃ x1 : Int32, args = [.ref x0, .int x1] ∧ wb_X9_mustStand cl lm Q E x0 x1 h
def be_X9_name : BT := fun cl lm args h Q E => ∃ x0 : Nat, args = [.ref x0] ∧ wb_X9_name cl lm Q E x0 h
def be_X9_pair : BT := fun cl lm args h Q E => ∃ x0 : Nat, args = [.ref x0] ∧ wb_X9_pair cl lm Q E x0 h
def be_X9_rec : BT := fun cl lm args h Q E => ∃ x0 : Nat, ∃ x1 : Int32, args = [.ref x0, .int x1] ∧ wb_X9_rec cl lm Q E x0 x1 h
def be_X9_record : BT := fun cl lm args h Q E => ∃ x0 : Nat, ∃ x1 : Option Nat, args = [.ref x0, va_rf x1] ∧ wb_X9_record cl lm Q E x0 x1 h
def be_X9_take : BT := fun cl lm args h Q E => ∃ x0 : Nat, ∃ x1 : Int32, args = [.ref x0, .int x1] ∧ wb_X9_take cl lm Q E x0 x1 h
def be_X9_under : BT := fun cl lm args h Q E => ∃ x0 : Nat, ∃ x1 : Int32, ∃ x2 : Int32, args = [.ref x0, .int x1, .int x2] ∧ wb_X9_under cl lm Q E x0 x1 x2 h
def be_X9_value : BT := fun cl lm args h Q E => ∃ x0 : Nat, ∃ x1 : Int32, args = [.ref x0, .int x1] ∧ wb_X9_value cl lm Q E x0 x1 h
def be_X9_wrong : BT := fun cl lm args h Q E => ∃ x0 : Nat, ∃ x1 : Int32, ∃ x2 : Int32, args = [.ref x0, .int x1, .int x2] ∧ wb_X9_wrong cl lm Q E x0 x1 x2 h
def be_X10_init : BT := fun cl lm args h Q E => ∃ x0 : Nat, ∃ x1 : Int32, args = [.ref x0, .int x1] ∧ wb_X10_init cl lm Q E x0 x1 h
def be_X10_number : BT := fun cl lm args h Q E => ∃ x0 : Nat, args = [.ref x0] ∧ wb_X10_number cl lm Q E x0 h
def be_X11_equals : BT := fun cl lm args h Q E => ∃ x0 : Nat, ∃ x1 : Option Nat, args = [.ref x0, va_rf x1] ∧ wb_X11_equals cl lm Q E x0 x1 h
def be_X11_hashCode : BT := fun cl lm args h Q E => ∃ x0 : Nat, args = [.ref x0] ∧ wb_X11_hashCode cl lm Q E x0 h
def be_X11_init : BT := fun cl lm args h Q E => ∃ x0 : Nat, ∃ x1 : Option Nat, args = [.ref x0, va_rf x1] ∧ wb_X11_init cl lm Q E x0 x1 h
def be_X11_kind : BT := fun cl lm args h Q E => ∃ x0 : Nat, args = [.ref x0] ∧ wb_X11_kind cl lm Q E x0 h
def be_X11_lay : BT := fun cl lm args h Q E => ∃ x0 : Nat, ∃ x1 : Option Nat, ∃ x2 : Int32, args = [.ref x0, va_rf x1, .int x2] ∧ wb_X11_lay cl lm Q E x0 x1 x2 h
def be_X11_many : BT := fun cl lm args h Q E => ∃ x0 : Nat, args = [.ref x0] ∧ wb_X11_many cl lm Q E x0 h
def be_X11_size : BT := fun cl lm args h Q E => ∃ x0 : Nat, args = [.ref x0] ∧ wb_X11_size cl lm Q E x0 h
def be_X11_step : BT := fun cl lm args h Q E => ∃ x0 : Nat, ∃ x1 : Int32, args = [.ref x0, .int x1] ∧ wb_X11_step cl lm Q E x0 x1 h
def be_X11_total : BT := fun cl lm args h Q E => ∃ x0 : Nat, args = [.ref x0] ∧ wb_X11_total cl lm Q E x0 h
def be_X11_with : BT := fun cl lm args h Q E => ∃ x0 : Nat, ∃ x1 : Int32, ∃ x2 : Option Nat, args = [.ref x0, .int x1, va_rf x2] ∧ wb_X11_with cl lm Q E x0 x1 x2 h
def be_X12_equals : BT := fun cl lm args h Q E => ∃ x0 : Nat, ∃ x1 : Option Nat, args = [.ref x0, va_rf x1] ∧ wb_X12_equals cl lm Q E x0 x1 h
def be_X12_hashCode : BT := fun cl lm args h Q E => ∃ x0 : Nat, args = [.ref x0] ∧ wb_X12_hashCode cl lm Q E x0 h
def be_X12_init : BT := fun cl lm args h Q E => ∃ x0 : Nat, ∃ x1 : Option Nat, args = [.ref x0, va_rf x1] ∧ wb_X12_init cl lm Q E x0 x1 h
def be_X12_isAhead : BT := fun cl lm args h Q E => ∃ x0 : Nat, ∃ x1 : Int32, args = [.ref x0, .int x1] ∧ wb_X12_isAhead cl lm Q E x0 x1 h
def be_X12_kind : BT := fun cl lm args h Q E => ∃ x0 : Nat, args = [.ref x0] ∧ wb_X12_kind cl lm Q E x0 h
def be_X12_lay : BT := fun cl lm args h Q E => ∃ x0 : Nat, ∃ x1 : Option Nat, ∃ x2 : Int32, args = [.ref x0, va_rf x1, .int x2] ∧ wb_X12_lay cl lm Q E x0 x1 x2 h
def be_X12_many : BT := fun cl lm args h Q E => ∃ x0 : Nat, args = [.ref x0] ∧ wb_X12_many cl lm Q E x0 h
def be_X12_size : BT := fun cl lm args h Q E => ∃ x0 : Nat, args = [.ref x0] ∧ wb_X12_size cl lm Q E x0 h
def be_X12_step : BT := fun cl lm args h Q E => ∃ x0 : Nat, ∃ x1 : Int32, args = [.ref x0, .int x1] ∧ wb_X12_step cl lm Q E x0 x1 h
def be_X12_total : BT := fun cl lm args h Q E => ∃ x0 : Nat, args = [.ref x0] ∧ wb_X12_total cl lm Q E x0 h
def be_X12_with : BT := fun cl lm args h Q E => ∃ x0 : Nat, ∃ x1 : Int32, ∃ x2 : Option Nat, args = [.ref x0, .int x1, va_rf x2] ∧ wb_X12_with cl lm Q E x0 x1 x2 h
def be_X13_init : BT := fun cl lm args h Q E => ∃ x0 : Nat, args = [.ref x0] ∧ wb_X13_init cl lm Q E x0 h
def be_X13_of : BT := fun cl lm args h Q E => ∃ x0 : Nat, ∃ x1 : Int32, ∃ x2 : Int32, args = [.ref x0, .int x1, .int x2] ∧ wb_X13_of cl lm Q E x0 x1 x2 h
def be_X13_path : BT := fun cl lm args h Q E => ∃ x0 : Nat, args = [.ref x0] ∧ wb_X13_path cl lm Q E x0 h
def be_X13_told : BT := fun cl lm args h Q E => ∃ x0 : Nat, args = [.ref x0] ∧ wb_X13_told cl lm Q E x0 h
def be_X14_dependent : BT := fun cl lm args h Q E => ∃ x0 : Nat, ∃ x1 : Option Nat, ∃ x2 : Option Nat, ∃ x3 : Int32, ∃ x4 : Option Nat, args = [.ref x0, va_rf x1, va_rf x2, .int x3, va_rf x4] ∧ wb_X14_dependent cl lm Q E x0 x1 x2 x3 x4 h
def be_X14_field : BT := fun cl lm args h Q E => ∃ x0 : Nat, ∃ x1 : Int32, ∃ x2 : Int32, ∃ x3 : Option Nat, args = [.ref x0, .int x1, .int x2, va_rf x3] ∧ wb_X14_field cl lm Q E x0 x1 x2 x3 h
def be_X14_hangs : BT := fun cl lm args h Q E => ∃ x0 : Nat, ∃ x1 : Option Nat, ∃ x2 : Int32, ∃ x3 : Int32, ∃ x4 : Int32, args = [.ref x0, va_rf x1, .int x2, .int x3, .int x4] ∧ wb_X14_hangs cl lm Q E x0 x1 x2 x3 x4 h
def be_X14_independent : BT := fun cl lm args h Q E => ∃ x0 : Nat, ∃ x1 : Option Nat, ∃ x2 : Int32, ∃ x3 : Option Nat, args = [.ref x0, va_rf x1, .int x2, va_rf x3] ∧ wb_X14_independent cl lm Q E x0 x1 x2 x3 h
def be_X14_init : BT := fun cl lm args h Q E => ∃ x0 : Nat, args = [.ref x0] ∧ wb_X14_init cl lm Q E x0 h
def be_X14_isField : BT := fun cl lm args h Q E => ∃ x0 : Nat, ∃ x1 : Int32, args = [.ref x0, .int x1] ∧ wb_X14_isField cl lm Q E x0 x1 h
def be_X14_look : BT := fun cl lm args h Q E => ∃ x0 : Nat, args = [.ref x0] ∧ wb_X14_look cl lm Q E x0 h
def be_X14_lookAt : BT := fun cl lm args h Q E => ∃ x0 : Nat, ∃ x1 : Option Nat, ∃ x2 : Int32, ∃ x3 : Option Nat, args = [.ref x0, va_rf x1, .int x2, va_rf x3] ∧ wb_X14_lookAt cl lm Q E x0 x1 x2 x3 h
def be_X15_init : BT := fun cl lm args h Q E => ∃ x0 : Nat, ∃ x1 : Int32, ∃ x2 : Int32, ∃ x3 : Option Nat, args = [.ref x0, .int x1, .int x2, va_rf x3] ∧ wb_X15_init cl lm Q E x0 x1 x2 x3 h
def be_X16_init : BT := fun cl lm args h Q E => ∃ x0 : Nat, ∃ x1 : Option Nat, ∃ x2 : Int32, ∃ x3 : Int32, ∃ x4 : Int32, args = [.ref x0, va_rf x1, .int x2, .int x3, .int x4] ∧ wb_X16_init cl lm Q E x0 x1 x2 x3 x4 h
def be_X17_and : BT := fun cl lm args h Q E => ∃ x0 : Nat, ∃ x1 : Option Nat, args = [.ref x0, va_rf x1] ∧ wb_X17_and cl lm Q E x0 x1 h
def be_X17_below : BT := fun cl lm args h Q E => ∃ x0 : Nat, ∃ x1 : Int32, args = [.ref x0, .int x1] ∧ wb_X17_below cl lm Q E x0 x1 h
def be_X17_emptied : BT := fun cl lm args h Q E => ∃ x0 : Nat, args = [.ref x0] ∧ wb_X17_emptied cl lm Q E x0 h
def be_X17_finds : BT := fun cl lm args h Q E => ∃ x0 : Nat, ∃ x1 : Int32, ∃ x2 : Int32, args = [.ref x0, .int x1, .int x2] ∧ wb_X17_finds cl lm Q E x0 x1 x2 h
def be_X17_init : BT := fun cl lm args h Q E => ∃ x0 : Nat, ∃ x1 : Option Nat, args = [.ref x0, va_rf x1] ∧ wb_X17_init cl lm Q E x0 x1 h
def be_X17_isNone : BT := fun cl lm args h Q E => ∃ x0 : Nat, args = [.ref x0] ∧ wb_X17_isNone cl lm Q E x0 h
def be_X18_add : BT := fun cl lm args h Q E => ∃ x0 : Nat, ∃ x1 : Option Nat, args = [.ref x0, va_rf x1] ∧ wb_X18_add cl lm Q E x0 x1 h
def be_X18_addAll : BT := fun cl lm args h Q E => ∃ x0 : Nat, ∃ x1 : Option Nat, args = [.ref x0, va_rf x1] ∧ wb_X18_addAll cl lm Q E x0 x1 h
def be_X18_at : BT := fun cl lm args h Q E => ∃ x0 : Nat, ∃ x1 : Int32, args = [.ref x0, .int x1] ∧ wb_X18_at cl lm Q E x0 x1 h
def be_X18_below : BT := fun cl lm args h Q E => ∃ x0 : Nat, ∃ x1 : Int32, args = [.ref x0, .int x1] ∧ wb_X18_below cl lm Q E x0 x1 h
def be_X18_empties : BT := fun cl lm args h Q E => ∃ x0 : Nat, args = [.ref x0] ∧ wb_X18_empties cl lm Q E x0 h
def be_X18_init : BT := fun cl lm args h Q E => ∃ x0 : Nat, args = [.ref x0] ∧ wb_X18_init cl lm Q E x0 h
def be_X19_init : BT := fun cl lm args h Q E => ∃ x0 : Nat, ∃ x1 : Int32, ∃ x2 : Option Nat, args = [.ref x0, .int x1, va_rf x2] ∧ wb_X19_init cl lm Q E x0 x1 x2 h
def be_X19_path : BT := fun cl lm args h Q E => ∃ x0 : Nat, args = [.ref x0] ∧ wb_X19_path cl lm Q E x0 h
def be_X20_init : BT := fun cl lm args h Q E => ∃ x0 : Nat, ∃ x1 : Int32, args = [.ref x0, .int x1] ∧ wb_X20_init cl lm Q E x0 x1 h
def bT : List BT := [be_J4_init, be_J5_afterNodeAccess, be_J5_afterNodeInsertion, be_J5_containsKey, be_J5_get, be_J5_getNode, be_J5_hash, be_J5_init, be_J5_newNode, be_J5_put, be_J5_putVal, be_J5_resize, be_J5_size, be_J5_treeifyBin, be_J6_afterNodeAccess, be_J6_afterNodeInsertion, be_J6_get, be_J6_init, be_J6_keySet, be_J6_linkNodeAtEnd, be_J6_newNode, be_J6_removeEldestEntry, be_J6_sequencedKeySet, be_J8_compare, be_J8_compareTo, be_J8_compareTo_2, be_J8_equals, be_J8_hashCode, be_J8_hashCode_2, be_J8_init, be_J8_intValue, be_J9_getKey, be_J9_init, be_J10_init, be_J12_init, be_J13_init, be_J14_init, be_J14_iterator, be_J18_hasNext, be_J18_init, be_J18_nextNode, be_J19_init, be_J19_next, be_J23_add, be_J23_init, be_J23_iterator, be_J23_size, be_X0_act, be_X0_at, be_X0_below, be_X0_belowTold, be_X0_by, be_X0_changed, be_X0_check, be_X0_clear, be_X0_clearIt, be_X0_coded, be_X0_codedTold, be_X0_count, be_X0_different, be_X0_differentOnes, be_X0_divisor, be_X0_drawn, be_X0_drops, be_X0_eitherLook, be_X0_far, be_X0_fault, be_X0_faultTold, be_X0_faults, be_X0_findingWith, be_X0_first, be_X0_found, be_X0_foundWith, be_X0_greatestPath, be_X0_has, be_X0_hurt, be_X0_image, be_X0_imageIt, be_X0_in, be_X0_init, be_X0_isBelow, be_X0_isLess, be_X0_isRowOf, be_X0_judge, be_X0_judgeRow, be_X0_lambda_eitherLook_4, be_X0_lambda_listLook_2, be_X0_lambda_numberLook_0, be_X0_lambda_onceLook_3, be_X0_lambda_thereLook_1, be_X0_letter, be_X0_letterIt, be_X0_limited, be_X0_limitedTold, be_X0_listLook, be_X0_loss, be_X0_lossPart, be_X0_lossTold, be_X0_lots, be_X0_lotsTold, be_X0_mean, be_X0_meanTold, be_X0_mend, be_X0_mendTold, be_X0_must, be_X0_mustBeBit, be_X0_numberLook, be_X0_numbersOf, be_X0_ofFaults, be_X0_ofRest, be_X0_often, be_X0_oftenTold, be_X0_on, be_X0_onIt, be_X0_onceLook, be_X0_part, be_X0_partAsked, be_X0_partOf, be_X0_parts, be_X0_path, be_X0_pathIn, be_X0_put, be_X0_putIt, be_X0_puts, be_X0_range, be_X0_rangeTold, be_X0_readCheck, be_X0_readValue, be_X0_refuse, be_X0_row, be_X0_rowIt, be_X0_same, be_X0_sameTold, be_X0_swap, be_X0_thereLook, be_X0_total, be_X0_totalTold, be_X0_value, be_X0_waits, be_X0_which, be_X0_whichTold, be_X0_within, be_X0_without, be_X0_withoutTold, be_X1_init, be_X1_layAll, be_X2_equals, be_X2_hashCode, be_X2_init, be_X2_kind, be_X2_lay, be_X2_many, be_X2_size, be_X2_step, be_X2_total, be_X2_with, be_X3_again, be_X3_init, be_X3_lambda_again_1, be_X3_lambda_new_0, be_X3_of, be_X4_emptied, be_X4_finding, be_X4_found, be_X4_init, be_X5_equals, be_X5_hashCode, be_X5_init, be_X5_kind, be_X5_lay, be_X5_many, be_X5_size, be_X5_step, be_X5_total, be_X5_with, be_X6_init, be_X6_isHolding, be_X6_many, be_X6_measures, be_X8_init, be_X8_number, be_X9_check, be_X9_digit, be_X9_end, be_X9_here, be_X9_init, be_X9_lambda_check_0, be_X9_lambda_record_1, be_X9_lambda_record_2, be_X9_list, be_X9_mustStand, be_X9_name, be_X9_pair, be_X9_rec, be_X9_record, be_X9_take, be_X9_under, be_X9_value, be_X9_wrong, be_X10_init, be_X10_number, be_X11_equals, be_X11_hashCode, be_X11_init, be_X11_kind, be_X11_lay, be_X11_many, be_X11_size, be_X11_step, be_X11_total, be_X11_with, be_X12_equals, be_X12_hashCode, be_X12_init, be_X12_isAhead, be_X12_kind, be_X12_lay, be_X12_many, be_X12_size, be_X12_step, be_X12_total, be_X12_with, be_X13_init, be_X13_of, be_X13_path, be_X13_told, be_X14_dependent, be_X14_field, be_X14_hangs, be_X14_independent, be_X14_init, be_X14_isField, be_X14_look, be_X14_lookAt, be_X15_init, be_X16_init, be_X17_and, be_X17_below, be_X17_emptied, be_X17_finds, be_X17_init, be_X17_isNone, be_X18_add, be_X18_addAll, be_X18_at, be_X18_below, be_X18_empties, be_X18_init, be_X19_init, be_X19_path, be_X20_init]
def wpAll (lm : Nat × Nat) : Nat → CT
  | 0 => fun _ _ _ _ _ => False
  | n + 1 => fun mid args h Q E => (∃ f, bT[mid]? = some f ∧ f (wpAll lm n) lm args h Q E) ∨ (∃ i a As, 1 ≤ i ∧ i ≤ 11 ∧ mid = 250 + i ∧ args = .ref a :: As ∧ lamW h a i ∧ wpAll lm n (lamM i) (capV h a i ++ As) h (fun v h2 => lamZ i v ∧ Q v h2) (fun _ _ => False))
def All2 {α β : Type} (R : α → β → Prop) : List α → List β → Prop
  | [], [] => True
  | a :: as, b :: bs => R a b ∧ All2 R as bs
  | _, _ => False
theorem All2.get {α β : Type} {R : α → β → Prop} : ∀ {as : List α} {bs : List β}, All2 R as bs → ∀ {i : Nat} {a : α} {b : β}, as[i]? = some a → bs[i]? = some b → R a b
  | [], [], _, i, a, b, h1, _ => by simp at h1
  | x :: as, y :: bs, h, 0, a, b, h1, h2 => by
    cases Option.some.inj h1
    cases Option.some.inj h2
    exact h.1
  | x :: as, y :: bs, h, i + 1, a, b, h1, h2 => All2.get (as := as) (bs := bs) h.2 h1 h2
  | [], _ :: _, h, _, _, _, _, _ => h.elim
  | _ :: _, [], h, _, _, _, _, _ => h.elim
def MB (l : Launch) (G : GG) (lm : Nat × Nat) (q : MethodName × List Cond) (f : BT) : Prop := ∀ (cl : CT) (d2 : Nat), CallsOK l G d2 cl ∧ hLm G lm ∧ 8 ≤ d2 ∧ LamsOK l G d2 cl → ∀ (args : List Value) (h : HS) (Q : QT) (E : ET), f cl lm args h Q E → HMet l G q.1 q.2 (d2 + 1) args h Q E
theorem mb_J4_init {l : Launch} (hst : l.stackTraces = false) {G : GG} {lm : Nat × Nat} : MB l G lm (yJ4_init, (ws_ yJ4_init cJ4_init 1 ((Option.none : Option Jvm.ClassFile.FieldType)))) be_J4_init := by
  intro cl d2 hCl args h Q E ⟨x0, e, hw⟩
  subst e
  exact wx_J4_init hst hCl hw
theorem mb_J5_afterNodeAccess {l : Launch} (hst : l.stackTraces = false) {G : GG} {lm : Nat × Nat} : MB l G lm (yJ5_afterNodeAccess, (ws_ yJ5_afterNodeAccess cJ5_afterNodeAccess 2 ((Option.none : Option Jvm.ClassFile.FieldType)))) be_J5_afterNodeAccess := by
  intro cl d2 hCl args h Q E ⟨x0, x1, e, hw⟩
  subst e
  exact wx_J5_afterNodeAccess hst hCl hw
theorem mb_J5_afterNodeInsertion {l : Launch} (hst : l.stackTraces = false) {G : GG} {lm : Nat × Nat} : MB l G lm (yJ5_afterNodeInsertion, (ws_ yJ5_afterNodeInsertion cJ5_afterNodeInsertion 2 ((Option.none : Option Jvm.ClassFile.FieldType)))) be_J5_afterNodeInsertion := by
  intro cl d2 hCl args h Q E ⟨x0, x1, e, hw⟩
  subst e
  exact wx_J5_afterNodeInsertion hst hCl hw
theorem mb_J5_containsKey {l : Launch} (hst : l.stackTraces = false) {G : GG} {lm : Nat × Nat} : MB l G lm (yJ5_containsKey, (ws_ yJ5_containsKey cJ5_containsKey 2 ((Option.some Jvm.ClassFile.FieldType.boolean)))) be_J5_containsKey := by
  intro cl d2 hCl args h Q E ⟨x0, x1, e, hw⟩
  subst e
  exact wx_J5_containsKey hst hCl hw
theorem mb_J5_get {l : Launch} (hst : l.stackTraces = false) {G : GG} {lm : Nat × Nat} : MB l G lm (yJ5_get, (ws_ yJ5_get cJ5_get 3 ((Option.some (Jvm.ClassFile.FieldType.object "java/lang/Object"))))) be_J5_get := by
  intro cl d2 hCl args h Q E ⟨x0, x1, e, hw⟩
  subst e
  exact wx_J5_get hst hCl hw
theorem mb_J5_getNode {l : Launch} (hst : l.stackTraces = false) {G : GG} {lm : Nat × Nat} : MB l G lm (yJ5_getNode, (ws_ yJ5_getNode cJ5_getNode 8 ((Option.some (Jvm.ClassFile.FieldType.object "java/util/HashMap$Node"))))) be_J5_getNode := by
  intro cl d2 hCl args h Q E ⟨x0, x1, e, hw⟩
  subst e
  exact wx_J5_getNode hst hCl hw
theorem mb_J5_hash {l : Launch} (hst : l.stackTraces = false) {G : GG} {lm : Nat × Nat} : MB l G lm (yJ5_hash, (ws_ yJ5_hash cJ5_hash 2 ((Option.some Jvm.ClassFile.FieldType.int)))) be_J5_hash := by
  intro cl d2 hCl args h Q E ⟨x0, e, hw⟩
  subst e
  exact wx_J5_hash hst hCl hw
theorem mb_J5_init {l : Launch} (hst : l.stackTraces = false) {G : GG} {lm : Nat × Nat} : MB l G lm (yJ5_init, (ws_ yJ5_init cJ5_init 1 ((Option.none : Option Jvm.ClassFile.FieldType)))) be_J5_init := by
  intro cl d2 hCl args h Q E ⟨x0, e, hw⟩
  subst e
  exact wx_J5_init hst hCl hw
theorem mb_J5_newNode {l : Launch} (hst : l.stackTraces = false) {G : GG} {lm : Nat × Nat} : MB l G lm (yJ5_newNode, (ws_ yJ5_newNode cJ5_newNode 5 ((Option.some (Jvm.ClassFile.FieldType.object "java/util/HashMap$Node"))))) be_J5_newNode := by
  intro cl d2 hCl args h Q E ⟨x0, x1, x2, x3, x4, e, hw⟩
  subst e
  exact wx_J5_newNode hst hCl hw
theorem mb_J5_put {l : Launch} (hst : l.stackTraces = false) {G : GG} {lm : Nat × Nat} : MB l G lm (yJ5_put, (ws_ yJ5_put cJ5_put 3 ((Option.some (Jvm.ClassFile.FieldType.object "java/lang/Object"))))) be_J5_put := by
  intro cl d2 hCl args h Q E ⟨x0, x1, x2, e, hw⟩
  subst e
  exact wx_J5_put hst hCl hw
theorem mb_J5_putVal {l : Launch} (hst : l.stackTraces = false) {G : GG} {lm : Nat × Nat} : MB l G lm (yJ5_putVal, (ws_ yJ5_putVal cJ5_putVal 13 ((Option.some (Jvm.ClassFile.FieldType.object "java/lang/Object"))))) be_J5_putVal := by
  intro cl d2 hCl args h Q E ⟨x0, x1, x2, x3, x4, x5, e, hw⟩
  subst e
  exact wx_J5_putVal hst hCl hw
theorem mb_J5_resize {l : Launch} (hst : l.stackTraces = false) {G : GG} {lm : Nat × Nat} : MB l G lm (yJ5_resize, (ws_ yJ5_resize cJ5_resize 14 ((Option.some (Jvm.ClassFile.FieldType.array (Jvm.ClassFile.FieldType.object "java/util/HashMap$Node")))))) be_J5_resize := by
  intro cl d2 hCl args h Q E ⟨x0, e, hw⟩
  subst e
  exact wx_J5_resize hst hCl hw
theorem mb_J5_size {l : Launch} (hst : l.stackTraces = false) {G : GG} {lm : Nat × Nat} : MB l G lm (yJ5_size, (ws_ yJ5_size cJ5_size 1 ((Option.some Jvm.ClassFile.FieldType.int)))) be_J5_size := by
  intro cl d2 hCl args h Q E ⟨x0, e, hw⟩
  subst e
  exact wx_J5_size hst hCl hw
theorem mb_J5_treeifyBin {l : Launch} (hst : l.stackTraces = false) {G : GG} {lm : Nat × Nat} : MB l G lm (yJ5_treeifyBin, (ws_ yJ5_treeifyBin cJ5_treeifyBin 9 ((Option.none : Option Jvm.ClassFile.FieldType)))) be_J5_treeifyBin := by
  intro cl d2 hCl args h Q E ⟨x0, x1, x2, e, hw⟩
  subst e
  exact wx_J5_treeifyBin hst hCl hw
theorem mb_J6_afterNodeAccess {l : Launch} (hst : l.stackTraces = false) {G : GG} {lm : Nat × Nat} : MB l G lm (yJ6_afterNodeAccess, (ws_ yJ6_afterNodeAccess cJ6_afterNodeAccess 7 ((Option.none : Option Jvm.ClassFile.FieldType)))) be_J6_afterNodeAccess := by
  intro cl d2 hCl args h Q E ⟨x0, x1, e, hw⟩
  subst e
  exact wx_J6_afterNodeAccess hst hCl hw
theorem mb_J6_afterNodeInsertion {l : Launch} (hst : l.stackTraces = false) {G : GG} {lm : Nat × Nat} : MB l G lm (yJ6_afterNodeInsertion, (ws_ yJ6_afterNodeInsertion cJ6_afterNodeInsertion 4 ((Option.none : Option Jvm.ClassFile.FieldType)))) be_J6_afterNodeInsertion := by
  intro cl d2 hCl args h Q E ⟨x0, x1, e, hw⟩
  subst e
  exact wx_J6_afterNodeInsertion hst hCl hw
theorem mb_J6_get {l : Launch} (hst : l.stackTraces = false) {G : GG} {lm : Nat × Nat} : MB l G lm (yJ6_get, (ws_ yJ6_get cJ6_get 3 ((Option.some (Jvm.ClassFile.FieldType.object "java/lang/Object"))))) be_J6_get := by
  intro cl d2 hCl args h Q E ⟨x0, x1, e, hw⟩
  subst e
  exact wx_J6_get hst hCl hw
theorem mb_J6_init {l : Launch} (hst : l.stackTraces = false) {G : GG} {lm : Nat × Nat} : MB l G lm (yJ6_init, (ws_ yJ6_init cJ6_init 1 ((Option.none : Option Jvm.ClassFile.FieldType)))) be_J6_init := by
  intro cl d2 hCl args h Q E ⟨x0, e, hw⟩
  subst e
  exact wx_J6_init hst hCl hw
theorem mb_J6_keySet {l : Launch} (hst : l.stackTraces = false) {G : GG} {lm : Nat × Nat} : MB l G lm (yJ6_keySet, (ws_ yJ6_keySet cJ6_keySet 1 ((Option.some (Jvm.ClassFile.FieldType.object "java/util/Set"))))) be_J6_keySet := by
  intro cl d2 hCl args h Q E ⟨x0, e, hw⟩
  subst e
  exact wx_J6_keySet hst hCl hw
theorem mb_J6_linkNodeAtEnd {l : Launch} (hst : l.stackTraces = false) {G : GG} {lm : Nat × Nat} : MB l G lm (yJ6_linkNodeAtEnd, (ws_ yJ6_linkNodeAtEnd cJ6_linkNodeAtEnd 3 ((Option.none : Option Jvm.ClassFile.FieldType)))) be_J6_linkNodeAtEnd := by
  intro cl d2 hCl args h Q E ⟨x0, x1, e, hw⟩
  subst e
  exact wx_J6_linkNodeAtEnd hst hCl hw
theorem mb_J6_newNode {l : Launch} (hst : l.stackTraces = false) {G : GG} {lm : Nat × Nat} : MB l G lm (yJ6_newNode, (ws_ yJ6_newNode cJ6_newNode 6 ((Option.some (Jvm.ClassFile.FieldType.object "java/util/HashMap$Node"))))) be_J6_newNode := by
  intro cl d2 hCl args h Q E ⟨x0, x1, x2, x3, x4, e, hw⟩
  subst e
  exact wx_J6_newNode hst hCl hw
theorem mb_J6_removeEldestEntry {l : Launch} (hst : l.stackTraces = false) {G : GG} {lm : Nat × Nat} : MB l G lm (yJ6_removeEldestEntry, (ws_ yJ6_removeEldestEntry cJ6_removeEldestEntry 2 ((Option.some Jvm.ClassFile.FieldType.boolean)))) be_J6_removeEldestEntry := by
  intro cl d2 hCl args h Q E ⟨x0, x1, e, hw⟩
  subst e
  exact wx_J6_removeEldestEntry hst hCl hw
theorem mb_J6_sequencedKeySet {l : Launch} (hst : l.stackTraces = false) {G : GG} {lm : Nat × Nat} : MB l G lm (yJ6_sequencedKeySet, (ws_ yJ6_sequencedKeySet cJ6_sequencedKeySet 3 ((Option.some (Jvm.ClassFile.FieldType.object "java/util/SequencedSet"))))) be_J6_sequencedKeySet := by
  intro cl d2 hCl args h Q E ⟨x0, e, hw⟩
  subst e
  exact wx_J6_sequencedKeySet hst hCl hw
theorem mb_J8_compare {l : Launch} (hst : l.stackTraces = false) {G : GG} {lm : Nat × Nat} : MB l G lm (yJ8_compare, (ws_ yJ8_compare cJ8_compare 2 ((Option.some Jvm.ClassFile.FieldType.int)))) be_J8_compare := by
  intro cl d2 hCl args h Q E ⟨x0, x1, e, hw⟩
  subst e
  exact wx_J8_compare hst hCl hw
theorem mb_J8_compareTo {l : Launch} (hst : l.stackTraces = false) {G : GG} {lm : Nat × Nat} : MB l G lm (yJ8_compareTo, (ws_ yJ8_compareTo cJ8_compareTo 2 ((Option.some Jvm.ClassFile.FieldType.int)))) be_J8_compareTo := by
  intro cl d2 hCl args h Q E ⟨x0, x1, e, hw⟩
  subst e
  exact wx_J8_compareTo hst hCl hw
theorem mb_J8_compareTo_2 {l : Launch} (hst : l.stackTraces = false) {G : GG} {lm : Nat × Nat} : MB l G lm (yJ8_compareTo_2, (ws_ yJ8_compareTo_2 cJ8_compareTo_2 2 ((Option.some Jvm.ClassFile.FieldType.int)))) be_J8_compareTo_2 := by
  intro cl d2 hCl args h Q E ⟨x0, x1, e, hw⟩
  subst e
  exact wx_J8_compareTo_2 hst hCl hw
theorem mb_J8_equals {l : Launch} (hst : l.stackTraces = false) {G : GG} {lm : Nat × Nat} : MB l G lm (yJ8_equals, (ws_ yJ8_equals cJ8_equals 2 ((Option.some Jvm.ClassFile.FieldType.boolean)))) be_J8_equals := by
  intro cl d2 hCl args h Q E ⟨x0, x1, e, hw⟩
  subst e
  exact wx_J8_equals hst hCl hw
theorem mb_J8_hashCode {l : Launch} (hst : l.stackTraces = false) {G : GG} {lm : Nat × Nat} : MB l G lm (yJ8_hashCode, (ws_ yJ8_hashCode cJ8_hashCode 1 ((Option.some Jvm.ClassFile.FieldType.int)))) be_J8_hashCode := by
  intro cl d2 hCl args h Q E ⟨x0, e, hw⟩
  subst e
  exact wx_J8_hashCode hst hCl hw
theorem mb_J8_hashCode_2 {l : Launch} (hst : l.stackTraces = false) {G : GG} {lm : Nat × Nat} : MB l G lm (yJ8_hashCode_2, (ws_ yJ8_hashCode_2 cJ8_hashCode_2 1 ((Option.some Jvm.ClassFile.FieldType.int)))) be_J8_hashCode_2 := by
  intro cl d2 hCl args h Q E ⟨x0, e, hw⟩
  subst e
  exact wx_J8_hashCode_2 hst hCl hw
theorem mb_J8_init {l : Launch} (hst : l.stackTraces = false) {G : GG} {lm : Nat × Nat} : MB l G lm (yJ8_init, (ws_ yJ8_init cJ8_init 2 ((Option.none : Option Jvm.ClassFile.FieldType)))) be_J8_init := by
  intro cl d2 hCl args h Q E ⟨x0, x1, e, hw⟩
  subst e
  exact wx_J8_init hst hCl hw
theorem mb_J8_intValue {l : Launch} (hst : l.stackTraces = false) {G : GG} {lm : Nat × Nat} : MB l G lm (yJ8_intValue, (ws_ yJ8_intValue cJ8_intValue 1 ((Option.some Jvm.ClassFile.FieldType.int)))) be_J8_intValue := by
  intro cl d2 hCl args h Q E ⟨x0, e, hw⟩
  subst e
  exact wx_J8_intValue hst hCl hw
theorem mb_J9_getKey {l : Launch} (hst : l.stackTraces = false) {G : GG} {lm : Nat × Nat} : MB l G lm (yJ9_getKey, (ws_ yJ9_getKey cJ9_getKey 1 ((Option.some (Jvm.ClassFile.FieldType.object "java/lang/Object"))))) be_J9_getKey := by
  intro cl d2 hCl args h Q E ⟨x0, e, hw⟩
  subst e
  exact wx_J9_getKey hst hCl hw
theorem mb_J9_init {l : Launch} (hst : l.stackTraces = false) {G : GG} {lm : Nat × Nat} : MB l G lm (yJ9_init, (ws_ yJ9_init cJ9_init 5 ((Option.none : Option Jvm.ClassFile.FieldType)))) be_J9_init := by
  intro cl d2 hCl args h Q E ⟨x0, x1, x2, x3, x4, e, hw⟩
  subst e
  exact wx_J9_init hst hCl hw
theorem mb_J10_init {l : Launch} (hst : l.stackTraces = false) {G : GG} {lm : Nat × Nat} : MB l G lm (yJ10_init, (ws_ yJ10_init cJ10_init 5 ((Option.none : Option Jvm.ClassFile.FieldType)))) be_J10_init := by
  intro cl d2 hCl args h Q E ⟨x0, x1, x2, x3, x4, e, hw⟩
  subst e
  exact wx_J10_init hst hCl hw
theorem mb_J12_init {l : Launch} (hst : l.stackTraces = false) {G : GG} {lm : Nat × Nat} : MB l G lm (yJ12_init, (ws_ yJ12_init cJ12_init 1 ((Option.none : Option Jvm.ClassFile.FieldType)))) be_J12_init := by
  intro cl d2 hCl args h Q E ⟨x0, e, hw⟩
  subst e
  exact wx_J12_init hst hCl hw
theorem mb_J13_init {l : Launch} (hst : l.stackTraces = false) {G : GG} {lm : Nat × Nat} : MB l G lm (yJ13_init, (ws_ yJ13_init cJ13_init 1 ((Option.none : Option Jvm.ClassFile.FieldType)))) be_J13_init := by
  intro cl d2 hCl args h Q E ⟨x0, e, hw⟩
  subst e
  exact wx_J13_init hst hCl hw
theorem mb_J14_init {l : Launch} (hst : l.stackTraces = false) {G : GG} {lm : Nat × Nat} : MB l G lm (yJ14_init, (ws_ yJ14_init cJ14_init 3 ((Option.none : Option Jvm.ClassFile.FieldType)))) be_J14_init := by
  intro cl d2 hCl args h Q E ⟨x0, x1, x2, e, hw⟩
  subst e
  exact wx_J14_init hst hCl hw
theorem mb_J14_iterator {l : Launch} (hst : l.stackTraces = false) {G : GG} {lm : Nat × Nat} : MB l G lm (yJ14_iterator, (ws_ yJ14_iterator cJ14_iterator 1 ((Option.some (Jvm.ClassFile.FieldType.object "java/util/Iterator"))))) be_J14_iterator := by
  intro cl d2 hCl args h Q E ⟨x0, e, hw⟩
  subst e
  exact wx_J14_iterator hst hCl hw
theorem mb_J18_hasNext {l : Launch} (hst : l.stackTraces = false) {G : GG} {lm : Nat × Nat} : MB l G lm (yJ18_hasNext, (ws_ yJ18_hasNext cJ18_hasNext 1 ((Option.some Jvm.ClassFile.FieldType.boolean)))) be_J18_hasNext := by
  intro cl d2 hCl args h Q E ⟨x0, e, hw⟩
  subst e
  exact wx_J18_hasNext hst hCl hw
theorem mb_J18_init {l : Launch} (hst : l.stackTraces = false) {G : GG} {lm : Nat × Nat} : MB l G lm (yJ18_init, (ws_ yJ18_init cJ18_init 3 ((Option.none : Option Jvm.ClassFile.FieldType)))) be_J18_init := by
  intro cl d2 hCl args h Q E ⟨x0, x1, x2, e, hw⟩
  subst e
  exact wx_J18_init hst hCl hw
theorem mb_J18_nextNode {l : Launch} (hst : l.stackTraces = false) {G : GG} {lm : Nat × Nat} : MB l G lm (yJ18_nextNode, (ws_ yJ18_nextNode cJ18_nextNode 2 ((Option.some (Jvm.ClassFile.FieldType.object "java/util/LinkedHashMap$Entry"))))) be_J18_nextNode := by
  intro cl d2 hCl args h Q E ⟨x0, e, hw⟩
  subst e
  exact wx_J18_nextNode hst hCl hw
theorem mb_J19_init {l : Launch} (hst : l.stackTraces = false) {G : GG} {lm : Nat × Nat} : MB l G lm (yJ19_init, (ws_ yJ19_init cJ19_init 3 ((Option.none : Option Jvm.ClassFile.FieldType)))) be_J19_init := by
  intro cl d2 hCl args h Q E ⟨x0, x1, x2, e, hw⟩
  subst e
  exact wx_J19_init hst hCl hw
theorem mb_J19_next {l : Launch} (hst : l.stackTraces = false) {G : GG} {lm : Nat × Nat} : MB l G lm (yJ19_next, (ws_ yJ19_next cJ19_next 1 ((Option.some (Jvm.ClassFile.FieldType.object "java/lang/Object"))))) be_J19_next := by
  intro cl d2 hCl args h Q E ⟨x0, e, hw⟩
  subst e
  exact wx_J19_next hst hCl hw
theorem mb_J23_add {l : Launch} (hst : l.stackTraces = false) {G : GG} {lm : Nat × Nat} : MB l G lm (yJ23_add, (ws_ yJ23_add cJ23_add 2 ((Option.some Jvm.ClassFile.FieldType.boolean)))) be_J23_add := by
  intro cl d2 hCl args h Q E ⟨x0, x1, e, hw⟩
  subst e
  exact wx_J23_add hst hCl hw
theorem mb_J23_init {l : Launch} (hst : l.stackTraces = false) {G : GG} {lm : Nat × Nat} : MB l G lm (yJ23_init, (ws_ yJ23_init cJ23_init 1 ((Option.none : Option Jvm.ClassFile.FieldType)))) be_J23_init := by
  intro cl d2 hCl args h Q E ⟨x0, e, hw⟩
  subst e
  exact wx_J23_init hst hCl hw
theorem mb_J23_iterator {l : Launch} (hst : l.stackTraces = false) {G : GG} {lm : Nat × Nat} : MB l G lm (yJ23_iterator, (ws_ yJ23_iterator cJ23_iterator 1 ((Option.some (Jvm.ClassFile.FieldType.object "java/util/Iterator"))))) be_J23_iterator := by
  intro cl d2 hCl args h Q E ⟨x0, e, hw⟩
  subst e
  exact wx_J23_iterator hst hCl hw
theorem mb_J23_size {l : Launch} (hst : l.stackTraces = false) {G : GG} {lm : Nat × Nat} : MB l G lm (yJ23_size, (ws_ yJ23_size cJ23_size 1 ((Option.some Jvm.ClassFile.FieldType.int)))) be_J23_size := by
  intro cl d2 hCl args h Q E ⟨x0, e, hw⟩
  subst e
  exact wx_J23_size hst hCl hw
theorem mb_X0_act {l : Launch} (hst : l.stackTraces = false) {G : GG} {lm : Nat × Nat} : MB l G lm (yX0_act, (wsW_ yX0_act cX0_act 6 ((Option.some Jvm.ClassFile.FieldType.int)) [(0, 25, 26, 342)])) be_X0_act := by
  intro cl d2 hCl args h Q E ⟨x0, x1, x2, x3, x4, e, hw⟩
  subst e
  exact wx_X0_act hst hCl hw
theorem mb_X0_at {l : Launch} (hst : l.stackTraces = false) {G : GG} {lm : Nat × Nat} : MB l G lm (yX0_at, (ws_ yX0_at cX0_at 4 ((Option.some (Jvm.ClassFile.FieldType.object "GathersAllFaults$Value"))))) be_X0_at := by
  intro cl d2 hCl args h Q E ⟨x0, x1, e, hw⟩
  subst e
  exact wx_X0_at hst hCl hw
theorem mb_X0_below {l : Launch} (hst : l.stackTraces = false) {G : GG} {lm : Nat × Nat} : MB l G lm (yX0_below, (ws_ yX0_below cX0_below 2 ((Option.some Jvm.ClassFile.FieldType.int)))) be_X0_below := by
  intro cl d2 hCl args h Q E ⟨x0, x1, e, hw⟩
  subst e
  exact wx_X0_below hst hCl hw
theorem mb_X0_belowTold {l : Launch} (hst : l.stackTraces = false) {G : GG} {lm : Nat × Nat} : MB l G lm (yX0_belowTold, (ws_ yX0_belowTold cX0_belowTold 2 ((Option.some Jvm.ClassFile.FieldType.int)))) be_X0_belowTold := by
  intro cl d2 hCl args h Q E ⟨x0, x1, e, hw⟩
  subst e
  exact wx_X0_belowTold hst hCl hw
theorem mb_X0_by {l : Launch} (hst : l.stackTraces = false) {G : GG} {lm : Nat × Nat} : MB l G lm (yX0_by, (ws_ yX0_by cX0_by 5 ((Option.some (Jvm.ClassFile.FieldType.object "GathersAllFaults$Finding"))))) be_X0_by := by
  intro cl d2 hCl args h Q E ⟨x0, x1, x2, x3, e, hw⟩
  subst e
  exact wx_X0_by hst hCl hw
theorem mb_X0_changed {l : Launch} (hst : l.stackTraces = false) {G : GG} {lm : Nat × Nat} : MB l G lm (yX0_changed, (ws_ yX0_changed cX0_changed 6 ((Option.some (Jvm.ClassFile.FieldType.object "GathersAllFaults$Value"))))) be_X0_changed := by
  intro cl d2 hCl args h Q E ⟨x0, x1, x2, e, hw⟩
  subst e
  exact wx_X0_changed hst hCl hw
theorem mb_X0_check {l : Launch} (hst : l.stackTraces = false) {G : GG} {lm : Nat × Nat} : MB l G lm (yX0_check, (ws_ yX0_check cX0_check 1 ((Option.some Jvm.ClassFile.FieldType.int)))) be_X0_check := by
  intro cl d2 hCl args h Q E ⟨x0, e, hw⟩
  subst e
  exact wx_X0_check hst hCl hw
theorem mb_X0_clear {l : Launch} (hst : l.stackTraces = false) {G : GG} {lm : Nat × Nat} : MB l G lm (yX0_clear, (ws_ yX0_clear cX0_clear 1 ((Option.some Jvm.ClassFile.FieldType.int)))) be_X0_clear := by
  intro cl d2 hCl args h Q E ⟨x0, e, hw⟩
  subst e
  exact wx_X0_clear hst hCl hw
theorem mb_X0_clearIt {l : Launch} (hst : l.stackTraces = false) {G : GG} {lm : Nat × Nat} : MB l G lm (yX0_clearIt, (ws_ yX0_clearIt cX0_clearIt 2 ((Option.some Jvm.ClassFile.FieldType.int)))) be_X0_clearIt := by
  intro cl d2 hCl args h Q E ⟨x0, e, hw⟩
  subst e
  exact wx_X0_clearIt hst hCl hw
theorem mb_X0_coded {l : Launch} (hst : l.stackTraces = false) {G : GG} {lm : Nat × Nat} : MB l G lm (yX0_coded, (ws_ yX0_coded cX0_coded 2 ((Option.some Jvm.ClassFile.FieldType.int)))) be_X0_coded := by
  intro cl d2 hCl args h Q E ⟨x0, x1, e, hw⟩
  subst e
  exact wx_X0_coded hst hCl hw
theorem mb_X0_codedTold {l : Launch} (hst : l.stackTraces = false) {G : GG} {lm : Nat × Nat} : MB l G lm (yX0_codedTold, (ws_ yX0_codedTold cX0_codedTold 5 ((Option.some Jvm.ClassFile.FieldType.int)))) be_X0_codedTold := by
  intro cl d2 hCl args h Q E ⟨x0, x1, e, hw⟩
  subst e
  exact wx_X0_codedTold hst hCl hw
theorem mb_X0_count {l : Launch} (hst : l.stackTraces = false) {G : GG} {lm : Nat × Nat} : MB l G lm (yX0_count, (ws_ yX0_count cX0_count 2 ((Option.some Jvm.ClassFile.FieldType.int)))) be_X0_count := by
  intro cl d2 hCl args h Q E ⟨x0, x1, e, hw⟩
  subst e
  exact wx_X0_count hst hCl hw
theorem mb_X0_different {l : Launch} (hst : l.stackTraces = false) {G : GG} {lm : Nat × Nat} : MB l G lm (yX0_different, (ws_ yX0_different cX0_different 1 ((Option.some Jvm.ClassFile.FieldType.int)))) be_X0_different := by
  intro cl d2 hCl args h Q E ⟨x0, e, hw⟩
  subst e
  exact wx_X0_different hst hCl hw
theorem mb_X0_differentOnes {l : Launch} (hst : l.stackTraces = false) {G : GG} {lm : Nat × Nat} : MB l G lm (yX0_differentOnes, (ws_ yX0_differentOnes cX0_differentOnes 4 ((Option.some Jvm.ClassFile.FieldType.int)))) be_X0_differentOnes := by
  intro cl d2 hCl args h Q E ⟨x0, e, hw⟩
  subst e
  exact wx_X0_differentOnes hst hCl hw
theorem mb_X0_divisor {l : Launch} (hst : l.stackTraces = false) {G : GG} {lm : Nat × Nat} : MB l G lm (yX0_divisor, (ws_ yX0_divisor cX0_divisor 4 ((Option.some Jvm.ClassFile.FieldType.long)))) be_X0_divisor := by
  intro cl d2 hCl args h Q E ⟨x0, x2, e, hw⟩
  subst e
  exact wx_X0_divisor hst hCl hw
theorem mb_X0_drawn {l : Launch} (hst : l.stackTraces = false) {G : GG} {lm : Nat × Nat} : MB l G lm (yX0_drawn, (ws_ yX0_drawn cX0_drawn 2 ((Option.some Jvm.ClassFile.FieldType.int)))) be_X0_drawn := by
  intro cl d2 hCl args h Q E ⟨x0, x1, e, hw⟩
  subst e
  exact wx_X0_drawn hst hCl hw
theorem mb_X0_drops {l : Launch} (hst : l.stackTraces = false) {G : GG} {lm : Nat × Nat} : MB l G lm (yX0_drops, (ws_ yX0_drops cX0_drops 2 ((Option.some Jvm.ClassFile.FieldType.int)))) be_X0_drops := by
  intro cl d2 hCl args h Q E ⟨x0, x1, e, hw⟩
  subst e
  exact wx_X0_drops hst hCl hw
theorem mb_X0_eitherLook {l : Launch} (hst : l.stackTraces = false) {G : GG} {lm : Nat × Nat} : MB l G lm (yX0_eitherLook, (ws_ yX0_eitherLook cX0_eitherLook 2 ((Option.some (Jvm.ClassFile.FieldType.object "GathersAllFaults$Look"))))) be_X0_eitherLook := by
  intro cl d2 hCl args h Q E ⟨x0, x1, e, hw⟩
  subst e
  exact wx_X0_eitherLook hst hCl hw
theorem mb_X0_far {l : Launch} (hst : l.stackTraces = false) {G : GG} {lm : Nat × Nat} : MB l G lm (yX0_far, (ws_ yX0_far cX0_far 2 ((Option.some Jvm.ClassFile.FieldType.long)))) be_X0_far := by
  intro cl d2 hCl args h Q E ⟨x0, x1, e, hw⟩
  subst e
  exact wx_X0_far hst hCl hw
theorem mb_X0_fault {l : Launch} (hst : l.stackTraces = false) {G : GG} {lm : Nat × Nat} : MB l G lm (yX0_fault, (ws_ yX0_fault cX0_fault 3 ((Option.some Jvm.ClassFile.FieldType.int)))) be_X0_fault := by
  intro cl d2 hCl args h Q E ⟨x0, x1, x2, e, hw⟩
  subst e
  exact wx_X0_fault hst hCl hw
theorem mb_X0_faultTold {l : Launch} (hst : l.stackTraces = false) {G : GG} {lm : Nat × Nat} : MB l G lm (yX0_faultTold, (ws_ yX0_faultTold cX0_faultTold 4 ((Option.some Jvm.ClassFile.FieldType.int)))) be_X0_faultTold := by
  intro cl d2 hCl args h Q E ⟨x0, x1, x2, e, hw⟩
  subst e
  exact wx_X0_faultTold hst hCl hw
theorem mb_X0_faults {l : Launch} (hst : l.stackTraces = false) {G : GG} {lm : Nat × Nat} : MB l G lm (yX0_faults, (ws_ yX0_faults cX0_faults 1 ((Option.some Jvm.ClassFile.FieldType.int)))) be_X0_faults := by
  intro cl d2 hCl args h Q E ⟨x0, e, hw⟩
  subst e
  exact wx_X0_faults hst hCl hw
theorem mb_X0_findingWith {l : Launch} (hst : l.stackTraces = false) {G : GG} {lm : Nat × Nat} : MB l G lm (yX0_findingWith, (wsW_ yX0_findingWith cX0_findingWith 6 ((Option.some (Jvm.ClassFile.FieldType.object "GathersAllFaults$Finding"))) [(18, 31, 41, 0), (41, 43, 41, 0)])) be_X0_findingWith := by
  intro cl d2 hCl args h Q E ⟨x0, x1, x2, e, hw⟩
  subst e
  exact wx_X0_findingWith hst hCl hw
theorem mb_X0_first {l : Launch} (hst : l.stackTraces = false) {G : GG} {lm : Nat × Nat} : MB l G lm (yX0_first, (ws_ yX0_first cX0_first 1 ((Option.some Jvm.ClassFile.FieldType.int)))) be_X0_first := by
  intro cl d2 hCl args h Q E ⟨x0, e, hw⟩
  subst e
  exact wx_X0_first hst hCl hw
theorem mb_X0_found {l : Launch} (hst : l.stackTraces = false) {G : GG} {lm : Nat × Nat} : MB l G lm (yX0_found, (ws_ yX0_found cX0_found 1 ((Option.some (Jvm.ClassFile.FieldType.object "GathersAllFaults$Finding"))))) be_X0_found := by
  intro cl d2 hCl args h Q E ⟨x0, e, hw⟩
  subst e
  exact wx_X0_found hst hCl hw
theorem mb_X0_foundWith {l : Launch} (hst : l.stackTraces = false) {G : GG} {lm : Nat × Nat} : MB l G lm (yX0_foundWith, (ws_ yX0_foundWith cX0_foundWith 3 ((Option.some Jvm.ClassFile.FieldType.int)))) be_X0_foundWith := by
  intro cl d2 hCl args h Q E ⟨x0, x1, x2, e, hw⟩
  subst e
  exact wx_X0_foundWith hst hCl hw
theorem mb_X0_greatestPath {l : Launch} (hst : l.stackTraces = false) {G : GG} {lm : Nat × Nat} : MB l G lm (yX0_greatestPath, (ws_ yX0_greatestPath cX0_greatestPath 4 ((Option.some Jvm.ClassFile.FieldType.int)))) be_X0_greatestPath := by
  intro cl d2 hCl args h Q E ⟨x0, e, hw⟩
  subst e
  exact wx_X0_greatestPath hst hCl hw
theorem mb_X0_has {l : Launch} (hst : l.stackTraces = false) {G : GG} {lm : Nat × Nat} : MB l G lm (yX0_has, (ws_ yX0_has cX0_has 2 ((Option.some Jvm.ClassFile.FieldType.boolean)))) be_X0_has := by
  intro cl d2 hCl args h Q E ⟨x0, x1, e, hw⟩
  subst e
  exact wx_X0_has hst hCl hw
theorem mb_X0_hurt {l : Launch} (hst : l.stackTraces = false) {G : GG} {lm : Nat × Nat} : MB l G lm (yX0_hurt, (ws_ yX0_hurt cX0_hurt 3 ((Option.none : Option Jvm.ClassFile.FieldType)))) be_X0_hurt := by
  intro cl d2 hCl args h Q E ⟨x0, x1, e, hw⟩
  subst e
  exact wx_X0_hurt hst hCl hw
theorem mb_X0_image {l : Launch} (hst : l.stackTraces = false) {G : GG} {lm : Nat × Nat} : MB l G lm (yX0_image, (ws_ yX0_image cX0_image 1 ((Option.some Jvm.ClassFile.FieldType.int)))) be_X0_image := by
  intro cl d2 hCl args h Q E ⟨x0, e, hw⟩
  subst e
  exact wx_X0_image hst hCl hw
theorem mb_X0_imageIt {l : Launch} (hst : l.stackTraces = false) {G : GG} {lm : Nat × Nat} : MB l G lm (yX0_imageIt, (ws_ yX0_imageIt cX0_imageIt 1 ((Option.some Jvm.ClassFile.FieldType.int)))) be_X0_imageIt := by
  intro cl d2 hCl args h Q E ⟨x0, e, hw⟩
  subst e
  exact wx_X0_imageIt hst hCl hw
theorem mb_X0_in {l : Launch} (hst : l.stackTraces = false) {G : GG} {lm : Nat × Nat} : MB l G lm (yX0_in, (ws_ yX0_in cX0_in 6 ((Option.some Jvm.ClassFile.FieldType.boolean)))) be_X0_in := by
  intro cl d2 hCl args h Q E ⟨x0, x2, x4, e, hw⟩
  subst e
  exact wx_X0_in hst hCl hw
theorem mb_X0_init {l : Launch} (hst : l.stackTraces = false) {G : GG} {lm : Nat × Nat} : MB l G lm (yX0_init, (ws_ yX0_init cX0_init 1 ((Option.none : Option Jvm.ClassFile.FieldType)))) be_X0_init := by
  intro cl d2 hCl args h Q E ⟨x0, e, hw⟩
  subst e
  exact wx_X0_init hst hCl hw
theorem mb_X0_isBelow {l : Launch} (hst : l.stackTraces = false) {G : GG} {lm : Nat × Nat} : MB l G lm (yX0_isBelow, (ws_ yX0_isBelow cX0_isBelow 3 ((Option.some Jvm.ClassFile.FieldType.boolean)))) be_X0_isBelow := by
  intro cl d2 hCl args h Q E ⟨x0, x1, e, hw⟩
  subst e
  exact wx_X0_isBelow hst hCl hw
theorem mb_X0_isLess {l : Launch} (hst : l.stackTraces = false) {G : GG} {lm : Nat × Nat} : MB l G lm (yX0_isLess, (ws_ yX0_isLess cX0_isLess 4 ((Option.some Jvm.ClassFile.FieldType.boolean)))) be_X0_isLess := by
  intro cl d2 hCl args h Q E ⟨x0, x1, e, hw⟩
  subst e
  exact wx_X0_isLess hst hCl hw
theorem mb_X0_isRowOf {l : Launch} (hst : l.stackTraces = false) {G : GG} {lm : Nat × Nat} : MB l G lm (yX0_isRowOf, (ws_ yX0_isRowOf cX0_isRowOf 3 ((Option.some Jvm.ClassFile.FieldType.boolean)))) be_X0_isRowOf := by
  intro cl d2 hCl args h Q E ⟨x0, x1, e, hw⟩
  subst e
  exact wx_X0_isRowOf hst hCl hw
theorem mb_X0_judge {l : Launch} (hst : l.stackTraces = false) {G : GG} {lm : Nat × Nat} : MB l G lm (yX0_judge, (ws_ yX0_judge cX0_judge 1 ((Option.some Jvm.ClassFile.FieldType.int)))) be_X0_judge := by
  intro cl d2 hCl args h Q E ⟨x0, e, hw⟩
  subst e
  exact wx_X0_judge hst hCl hw
theorem mb_X0_judgeRow {l : Launch} (hst : l.stackTraces = false) {G : GG} {lm : Nat × Nat} : MB l G lm (yX0_judgeRow, (wsW_ yX0_judgeRow cX0_judgeRow 5 ((Option.some Jvm.ClassFile.FieldType.int)) [(0, 48, 89, 0), (55, 82, 89, 0), (89, 91, 89, 0)])) be_X0_judgeRow := by
  intro cl d2 hCl args h Q E ⟨x0, e, hw⟩
  subst e
  exact wx_X0_judgeRow hst hCl hw
theorem mb_X0_lambda_eitherLook_4 {l : Launch} (hst : l.stackTraces = false) {G : GG} {lm : Nat × Nat} : MB l G lm (yX0_lambda_eitherLook_4, (ws_ yX0_lambda_eitherLook_4 cX0_lambda_eitherLook_4 8 ((Option.none : Option Jvm.ClassFile.FieldType)))) be_X0_lambda_eitherLook_4 := by
  intro cl d2 hCl args h Q E ⟨x0, x1, x2, x3, x4, e, hw⟩
  subst e
  exact wx_X0_lambda_eitherLook_4 hst hCl hw
theorem mb_X0_lambda_listLook_2 {l : Launch} (hst : l.stackTraces = false) {G : GG} {lm : Nat × Nat} : MB l G lm (yX0_lambda_listLook_2, (ws_ yX0_lambda_listLook_2 cX0_lambda_listLook_2 8 ((Option.none : Option Jvm.ClassFile.FieldType)))) be_X0_lambda_listLook_2 := by
  intro cl d2 hCl args h Q E ⟨x0, x1, x2, x3, x4, x5, e, hw⟩
  subst e
  exact wx_X0_lambda_listLook_2 hst hCl hw
theorem mb_X0_lambda_numberLook_0 {l : Launch} (hst : l.stackTraces = false) {G : GG} {lm : Nat × Nat} : MB l G lm (yX0_lambda_numberLook_0, (ws_ yX0_lambda_numberLook_0 cX0_lambda_numberLook_0 6 ((Option.none : Option Jvm.ClassFile.FieldType)))) be_X0_lambda_numberLook_0 := by
  intro cl d2 hCl args h Q E ⟨x0, x1, x2, x3, x4, e, hw⟩
  subst e
  exact wx_X0_lambda_numberLook_0 hst hCl hw
theorem mb_X0_lambda_onceLook_3 {l : Launch} (hst : l.stackTraces = false) {G : GG} {lm : Nat × Nat} : MB l G lm (yX0_lambda_onceLook_3, (ws_ yX0_lambda_onceLook_3 cX0_lambda_onceLook_3 8 ((Option.none : Option Jvm.ClassFile.FieldType)))) be_X0_lambda_onceLook_3 := by
  intro cl d2 hCl args h Q E ⟨x0, x1, x2, x3, e, hw⟩
  subst e
  exact wx_X0_lambda_onceLook_3 hst hCl hw
theorem mb_X0_lambda_thereLook_1 {l : Launch} (hst : l.stackTraces = false) {G : GG} {lm : Nat × Nat} : MB l G lm (yX0_lambda_thereLook_1, (ws_ yX0_lambda_thereLook_1 cX0_lambda_thereLook_1 5 ((Option.none : Option Jvm.ClassFile.FieldType)))) be_X0_lambda_thereLook_1 := by
  intro cl d2 hCl args h Q E ⟨x0, x1, x2, x3, x4, e, hw⟩
  subst e
  exact wx_X0_lambda_thereLook_1 hst hCl hw
theorem mb_X0_letter {l : Launch} (hst : l.stackTraces = false) {G : GG} {lm : Nat × Nat} : MB l G lm (yX0_letter, (ws_ yX0_letter cX0_letter 2 ((Option.some Jvm.ClassFile.FieldType.int)))) be_X0_letter := by
  intro cl d2 hCl args h Q E ⟨x0, x1, e, hw⟩
  subst e
  exact wx_X0_letter hst hCl hw
theorem mb_X0_letterIt {l : Launch} (hst : l.stackTraces = false) {G : GG} {lm : Nat × Nat} : MB l G lm (yX0_letterIt, (ws_ yX0_letterIt cX0_letterIt 2 ((Option.some Jvm.ClassFile.FieldType.int)))) be_X0_letterIt := by
  intro cl d2 hCl args h Q E ⟨x0, x1, e, hw⟩
  subst e
  exact wx_X0_letterIt hst hCl hw
theorem mb_X0_limited {l : Launch} (hst : l.stackTraces = false) {G : GG} {lm : Nat × Nat} : MB l G lm (yX0_limited, (ws_ yX0_limited cX0_limited 3 ((Option.some Jvm.ClassFile.FieldType.int)))) be_X0_limited := by
  intro cl d2 hCl args h Q E ⟨x0, x1, x2, e, hw⟩
  subst e
  exact wx_X0_limited hst hCl hw
theorem mb_X0_limitedTold {l : Launch} (hst : l.stackTraces = false) {G : GG} {lm : Nat × Nat} : MB l G lm (yX0_limitedTold, (ws_ yX0_limitedTold cX0_limitedTold 5 ((Option.some Jvm.ClassFile.FieldType.int)))) be_X0_limitedTold := by
  intro cl d2 hCl args h Q E ⟨x0, x1, x2, e, hw⟩
  subst e
  exact wx_X0_limitedTold hst hCl hw
theorem mb_X0_listLook {l : Launch} (hst : l.stackTraces = false) {G : GG} {lm : Nat × Nat} : MB l G lm (yX0_listLook, (ws_ yX0_listLook cX0_listLook 3 ((Option.some (Jvm.ClassFile.FieldType.object "GathersAllFaults$Look"))))) be_X0_listLook := by
  intro cl d2 hCl args h Q E ⟨x0, x1, x2, e, hw⟩
  subst e
  exact wx_X0_listLook hst hCl hw
theorem mb_X0_loss {l : Launch} (hst : l.stackTraces = false) {G : GG} {lm : Nat × Nat} : MB l G lm (yX0_loss, (ws_ yX0_loss cX0_loss 3 ((Option.some Jvm.ClassFile.FieldType.long)))) be_X0_loss := by
  intro cl d2 hCl args h Q E ⟨x0, x1, x2, e, hw⟩
  subst e
  exact wx_X0_loss hst hCl hw
theorem mb_X0_lossPart {l : Launch} (hst : l.stackTraces = false) {G : GG} {lm : Nat × Nat} : MB l G lm (yX0_lossPart, (ws_ yX0_lossPart cX0_lossPart 13 ((Option.some Jvm.ClassFile.FieldType.long)))) be_X0_lossPart := by
  intro cl d2 hCl args h Q E ⟨x0, x1, x2, e, hw⟩
  subst e
  exact wx_X0_lossPart hst hCl hw
theorem mb_X0_lossTold {l : Launch} (hst : l.stackTraces = false) {G : GG} {lm : Nat × Nat} : MB l G lm (yX0_lossTold, (wsW_ yX0_lossTold cX0_lossTold 4 ((Option.some Jvm.ClassFile.FieldType.long)) [(0, 21, 22, 342)])) be_X0_lossTold := by
  intro cl d2 hCl args h Q E ⟨x0, x1, x2, e, hw⟩
  subst e
  exact wx_X0_lossTold hst hCl hw
theorem mb_X0_lots {l : Launch} (hst : l.stackTraces = false) {G : GG} {lm : Nat × Nat} : MB l G lm (yX0_lots, (ws_ yX0_lots cX0_lots 4 ((Option.some Jvm.ClassFile.FieldType.int)))) be_X0_lots := by
  intro cl d2 hCl args h Q E ⟨x0, x1, x2, x3, e, hw⟩
  subst e
  exact wx_X0_lots hst hCl hw
theorem mb_X0_lotsTold {l : Launch} (hst : l.stackTraces = false) {G : GG} {lm : Nat × Nat} : MB l G lm (yX0_lotsTold, (ws_ yX0_lotsTold cX0_lotsTold 9 ((Option.some Jvm.ClassFile.FieldType.int)))) be_X0_lotsTold := by
  intro cl d2 hCl args h Q E ⟨x0, x1, x2, x3, e, hw⟩
  subst e
  exact wx_X0_lotsTold hst hCl hw
theorem mb_X0_mean {l : Launch} (hst : l.stackTraces = false) {G : GG} {lm : Nat × Nat} : MB l G lm (yX0_mean, (ws_ yX0_mean cX0_mean 2 ((Option.some Jvm.ClassFile.FieldType.long)))) be_X0_mean := by
  intro cl d2 hCl args h Q E ⟨x0, x1, e, hw⟩
  subst e
  exact wx_X0_mean hst hCl hw
theorem mb_X0_meanTold {l : Launch} (hst : l.stackTraces = false) {G : GG} {lm : Nat × Nat} : MB l G lm (yX0_meanTold, (wsW_ yX0_meanTold cX0_meanTold 3 ((Option.some Jvm.ClassFile.FieldType.long)) [(0, 27, 28, 342)])) be_X0_meanTold := by
  intro cl d2 hCl args h Q E ⟨x0, x1, e, hw⟩
  subst e
  exact wx_X0_meanTold hst hCl hw
theorem mb_X0_mend {l : Launch} (hst : l.stackTraces = false) {G : GG} {lm : Nat × Nat} : MB l G lm (yX0_mend, (ws_ yX0_mend cX0_mend 2 ((Option.some Jvm.ClassFile.FieldType.int)))) be_X0_mend := by
  intro cl d2 hCl args h Q E ⟨x0, x1, e, hw⟩
  subst e
  exact wx_X0_mend hst hCl hw
theorem mb_X0_mendTold {l : Launch} (hst : l.stackTraces = false) {G : GG} {lm : Nat × Nat} : MB l G lm (yX0_mendTold, (ws_ yX0_mendTold cX0_mendTold 8 ((Option.some Jvm.ClassFile.FieldType.int)))) be_X0_mendTold := by
  intro cl d2 hCl args h Q E ⟨x0, x1, e, hw⟩
  subst e
  exact wx_X0_mendTold hst hCl hw
theorem mb_X0_must {l : Launch} (hst : l.stackTraces = false) {G : GG} {lm : Nat × Nat} : MB l G lm (yX0_must, (ws_ yX0_must cX0_must 2 ((Option.none : Option Jvm.ClassFile.FieldType)))) be_X0_must := by
  intro cl d2 hCl args h Q E ⟨x0, x1, e, hw⟩
  subst e
  exact wx_X0_must hst hCl hw
theorem mb_X0_mustBeBit {l : Launch} (hst : l.stackTraces = false) {G : GG} {lm : Nat × Nat} : MB l G lm (yX0_mustBeBit, (ws_ yX0_mustBeBit cX0_mustBeBit 1 ((Option.none : Option Jvm.ClassFile.FieldType)))) be_X0_mustBeBit := by
  intro cl d2 hCl args h Q E ⟨x0, e, hw⟩
  subst e
  exact wx_X0_mustBeBit hst hCl hw
theorem mb_X0_numberLook {l : Launch} (hst : l.stackTraces = false) {G : GG} {lm : Nat × Nat} : MB l G lm (yX0_numberLook, (ws_ yX0_numberLook cX0_numberLook 2 ((Option.some (Jvm.ClassFile.FieldType.object "GathersAllFaults$Look"))))) be_X0_numberLook := by
  intro cl d2 hCl args h Q E ⟨x0, x1, e, hw⟩
  subst e
  exact wx_X0_numberLook hst hCl hw
theorem mb_X0_numbersOf {l : Launch} (hst : l.stackTraces = false) {G : GG} {lm : Nat × Nat} : MB l G lm (yX0_numbersOf, (ws_ yX0_numbersOf cX0_numbersOf 4 ((Option.some Jvm.ClassFile.FieldType.int)))) be_X0_numbersOf := by
  intro cl d2 hCl args h Q E ⟨x0, e, hw⟩
  subst e
  exact wx_X0_numbersOf hst hCl hw
theorem mb_X0_ofFaults {l : Launch} (hst : l.stackTraces = false) {G : GG} {lm : Nat × Nat} : MB l G lm (yX0_ofFaults, (ws_ yX0_ofFaults cX0_ofFaults 4 ((Option.some Jvm.ClassFile.FieldType.int)))) be_X0_ofFaults := by
  intro cl d2 hCl args h Q E ⟨x0, x1, x2, x3, e, hw⟩
  subst e
  exact wx_X0_ofFaults hst hCl hw
theorem mb_X0_ofRest {l : Launch} (hst : l.stackTraces = false) {G : GG} {lm : Nat × Nat} : MB l G lm (yX0_ofRest, (ws_ yX0_ofRest cX0_ofRest 5 ((Option.some Jvm.ClassFile.FieldType.int)))) be_X0_ofRest := by
  intro cl d2 hCl args h Q E ⟨x0, x1, x2, x3, x4, e, hw⟩
  subst e
  exact wx_X0_ofRest hst hCl hw
theorem mb_X0_often {l : Launch} (hst : l.stackTraces = false) {G : GG} {lm : Nat × Nat} : MB l G lm (yX0_often, (ws_ yX0_often cX0_often 2 ((Option.some Jvm.ClassFile.FieldType.int)))) be_X0_often := by
  intro cl d2 hCl args h Q E ⟨x0, x1, e, hw⟩
  subst e
  exact wx_X0_often hst hCl hw
theorem mb_X0_oftenTold {l : Launch} (hst : l.stackTraces = false) {G : GG} {lm : Nat × Nat} : MB l G lm (yX0_oftenTold, (ws_ yX0_oftenTold cX0_oftenTold 7 ((Option.some Jvm.ClassFile.FieldType.int)))) be_X0_oftenTold := by
  intro cl d2 hCl args h Q E ⟨x0, x1, e, hw⟩
  subst e
  exact wx_X0_oftenTold hst hCl hw
theorem mb_X0_on {l : Launch} (hst : l.stackTraces = false) {G : GG} {lm : Nat × Nat} : MB l G lm (yX0_on, (ws_ yX0_on cX0_on 1 ((Option.some Jvm.ClassFile.FieldType.int)))) be_X0_on := by
  intro cl d2 hCl args h Q E ⟨x0, e, hw⟩
  subst e
  exact wx_X0_on hst hCl hw
theorem mb_X0_onIt {l : Launch} (hst : l.stackTraces = false) {G : GG} {lm : Nat × Nat} : MB l G lm (yX0_onIt, (ws_ yX0_onIt cX0_onIt 1 ((Option.some Jvm.ClassFile.FieldType.int)))) be_X0_onIt := by
  intro cl d2 hCl args h Q E ⟨x0, e, hw⟩
  subst e
  exact wx_X0_onIt hst hCl hw
theorem mb_X0_onceLook {l : Launch} (hst : l.stackTraces = false) {G : GG} {lm : Nat × Nat} : MB l G lm (yX0_onceLook, (ws_ yX0_onceLook cX0_onceLook 1 ((Option.some (Jvm.ClassFile.FieldType.object "GathersAllFaults$Look"))))) be_X0_onceLook := by
  intro cl d2 hCl args h Q E ⟨x0, e, hw⟩
  subst e
  exact wx_X0_onceLook hst hCl hw
theorem mb_X0_part {l : Launch} (hst : l.stackTraces = false) {G : GG} {lm : Nat × Nat} : MB l G lm (yX0_part, (ws_ yX0_part cX0_part 3 ((Option.some Jvm.ClassFile.FieldType.int)))) be_X0_part := by
  intro cl d2 hCl args h Q E ⟨x0, x1, x2, e, hw⟩
  subst e
  exact wx_X0_part hst hCl hw
theorem mb_X0_partAsked {l : Launch} (hst : l.stackTraces = false) {G : GG} {lm : Nat × Nat} : MB l G lm (yX0_partAsked, (ws_ yX0_partAsked cX0_partAsked 6 ((Option.some Jvm.ClassFile.FieldType.int)))) be_X0_partAsked := by
  intro cl d2 hCl args h Q E ⟨x0, x1, x2, e, hw⟩
  subst e
  exact wx_X0_partAsked hst hCl hw
theorem mb_X0_partOf {l : Launch} (hst : l.stackTraces = false) {G : GG} {lm : Nat × Nat} : MB l G lm (yX0_partOf, (ws_ yX0_partOf cX0_partOf 7 ((Option.some Jvm.ClassFile.FieldType.long)))) be_X0_partOf := by
  intro cl d2 hCl args h Q E ⟨x0, x2, x4, e, hw⟩
  subst e
  exact wx_X0_partOf hst hCl hw
theorem mb_X0_parts {l : Launch} (hst : l.stackTraces = false) {G : GG} {lm : Nat × Nat} : MB l G lm (yX0_parts, (ws_ yX0_parts cX0_parts 2 ((Option.some (Jvm.ClassFile.FieldType.object "GathersAllFaults$Row"))))) be_X0_parts := by
  intro cl d2 hCl args h Q E ⟨x0, e, hw⟩
  subst e
  exact wx_X0_parts hst hCl hw
theorem mb_X0_path {l : Launch} (hst : l.stackTraces = false) {G : GG} {lm : Nat × Nat} : MB l G lm (yX0_path, (ws_ yX0_path cX0_path 2 ((Option.some Jvm.ClassFile.FieldType.int)))) be_X0_path := by
  intro cl d2 hCl args h Q E ⟨x0, x1, e, hw⟩
  subst e
  exact wx_X0_path hst hCl hw
theorem mb_X0_pathIn {l : Launch} (hst : l.stackTraces = false) {G : GG} {lm : Nat × Nat} : MB l G lm (yX0_pathIn, (ws_ yX0_pathIn cX0_pathIn 10 ((Option.some Jvm.ClassFile.FieldType.int)))) be_X0_pathIn := by
  intro cl d2 hCl args h Q E ⟨x0, x1, x2, e, hw⟩
  subst e
  exact wx_X0_pathIn hst hCl hw
theorem mb_X0_put {l : Launch} (hst : l.stackTraces = false) {G : GG} {lm : Nat × Nat} : MB l G lm (yX0_put, (ws_ yX0_put cX0_put 4 ((Option.some Jvm.ClassFile.FieldType.int)))) be_X0_put := by
  intro cl d2 hCl args h Q E ⟨x0, x1, x2, e, hw⟩
  subst e
  exact wx_X0_put hst hCl hw
theorem mb_X0_putIt {l : Launch} (hst : l.stackTraces = false) {G : GG} {lm : Nat × Nat} : MB l G lm (yX0_putIt, (ws_ yX0_putIt cX0_putIt 3 ((Option.some Jvm.ClassFile.FieldType.int)))) be_X0_putIt := by
  intro cl d2 hCl args h Q E ⟨x0, x1, x2, e, hw⟩
  subst e
  exact wx_X0_putIt hst hCl hw
theorem mb_X0_puts {l : Launch} (hst : l.stackTraces = false) {G : GG} {lm : Nat × Nat} : MB l G lm (yX0_puts, (ws_ yX0_puts cX0_puts 3 ((Option.some Jvm.ClassFile.FieldType.int)))) be_X0_puts := by
  intro cl d2 hCl args h Q E ⟨x0, x1, x2, e, hw⟩
  subst e
  exact wx_X0_puts hst hCl hw
theorem mb_X0_range {l : Launch} (hst : l.stackTraces = false) {G : GG} {lm : Nat × Nat} : MB l G lm (yX0_range, (ws_ yX0_range cX0_range 3 ((Option.some Jvm.ClassFile.FieldType.int)))) be_X0_range := by
  intro cl d2 hCl args h Q E ⟨x0, x1, x2, e, hw⟩
  subst e
  exact wx_X0_range hst hCl hw
theorem mb_X0_rangeTold {l : Launch} (hst : l.stackTraces = false) {G : GG} {lm : Nat × Nat} : MB l G lm (yX0_rangeTold, (ws_ yX0_rangeTold cX0_rangeTold 5 ((Option.some Jvm.ClassFile.FieldType.int)))) be_X0_rangeTold := by
  intro cl d2 hCl args h Q E ⟨x0, x1, x2, e, hw⟩
  subst e
  exact wx_X0_rangeTold hst hCl hw
theorem mb_X0_readCheck {l : Launch} (hst : l.stackTraces = false) {G : GG} {lm : Nat × Nat} : MB l G lm (yX0_readCheck, (wsW_ yX0_readCheck cX0_readCheck 5 ((Option.some Jvm.ClassFile.FieldType.int)) [(0, 49, 56, 0), (56, 58, 56, 0)])) be_X0_readCheck := by
  intro cl d2 hCl args h Q E ⟨x0, e, hw⟩
  subst e
  exact wx_X0_readCheck hst hCl hw
theorem mb_X0_readValue {l : Launch} (hst : l.stackTraces = false) {G : GG} {lm : Nat × Nat} : MB l G lm (yX0_readValue, (wsW_ yX0_readValue cX0_readValue 5 ((Option.some Jvm.ClassFile.FieldType.int)) [(0, 29, 36, 0), (36, 38, 36, 0)])) be_X0_readValue := by
  intro cl d2 hCl args h Q E ⟨x0, e, hw⟩
  subst e
  exact wx_X0_readValue hst hCl hw
theorem mb_X0_refuse {l : Launch} (hst : l.stackTraces = false) {G : GG} {lm : Nat × Nat} : MB l G lm (yX0_refuse, (ws_ yX0_refuse cX0_refuse 2 ((Option.some Jvm.ClassFile.FieldType.int)))) be_X0_refuse := by
  intro cl d2 hCl args h Q E ⟨x0, x1, e, hw⟩
  subst e
  exact wx_X0_refuse hst hCl hw
theorem mb_X0_row {l : Launch} (hst : l.stackTraces = false) {G : GG} {lm : Nat × Nat} : MB l G lm (yX0_row, (ws_ yX0_row cX0_row 2 ((Option.some Jvm.ClassFile.FieldType.int)))) be_X0_row := by
  intro cl d2 hCl args h Q E ⟨x0, x1, e, hw⟩
  subst e
  exact wx_X0_row hst hCl hw
theorem mb_X0_rowIt {l : Launch} (hst : l.stackTraces = false) {G : GG} {lm : Nat × Nat} : MB l G lm (yX0_rowIt, (ws_ yX0_rowIt cX0_rowIt 2 ((Option.some Jvm.ClassFile.FieldType.int)))) be_X0_rowIt := by
  intro cl d2 hCl args h Q E ⟨x0, x1, e, hw⟩
  subst e
  exact wx_X0_rowIt hst hCl hw
theorem mb_X0_same {l : Launch} (hst : l.stackTraces = false) {G : GG} {lm : Nat × Nat} : MB l G lm (yX0_same, (ws_ yX0_same cX0_same 3 ((Option.some Jvm.ClassFile.FieldType.int)))) be_X0_same := by
  intro cl d2 hCl args h Q E ⟨x0, x1, x2, e, hw⟩
  subst e
  exact wx_X0_same hst hCl hw
theorem mb_X0_sameTold {l : Launch} (hst : l.stackTraces = false) {G : GG} {lm : Nat × Nat} : MB l G lm (yX0_sameTold, (ws_ yX0_sameTold cX0_sameTold 4 ((Option.some Jvm.ClassFile.FieldType.int)))) be_X0_sameTold := by
  intro cl d2 hCl args h Q E ⟨x0, x1, x2, e, hw⟩
  subst e
  exact wx_X0_sameTold hst hCl hw
theorem mb_X0_swap {l : Launch} (hst : l.stackTraces = false) {G : GG} {lm : Nat × Nat} : MB l G lm (yX0_swap, (ws_ yX0_swap cX0_swap 9 ((Option.some (Jvm.ClassFile.FieldType.object "GathersAllFaults$Value"))))) be_X0_swap := by
  intro cl d2 hCl args h Q E ⟨x0, x1, x2, e, hw⟩
  subst e
  exact wx_X0_swap hst hCl hw
theorem mb_X0_thereLook {l : Launch} (hst : l.stackTraces = false) {G : GG} {lm : Nat × Nat} : MB l G lm (yX0_thereLook, (ws_ yX0_thereLook cX0_thereLook 2 ((Option.some (Jvm.ClassFile.FieldType.object "GathersAllFaults$Look"))))) be_X0_thereLook := by
  intro cl d2 hCl args h Q E ⟨x0, x1, e, hw⟩
  subst e
  exact wx_X0_thereLook hst hCl hw
theorem mb_X0_total {l : Launch} (hst : l.stackTraces = false) {G : GG} {lm : Nat × Nat} : MB l G lm (yX0_total, (ws_ yX0_total cX0_total 1 ((Option.some Jvm.ClassFile.FieldType.int)))) be_X0_total := by
  intro cl d2 hCl args h Q E ⟨x0, e, hw⟩
  subst e
  exact wx_X0_total hst hCl hw
theorem mb_X0_totalTold {l : Launch} (hst : l.stackTraces = false) {G : GG} {lm : Nat × Nat} : MB l G lm (yX0_totalTold, (ws_ yX0_totalTold cX0_totalTold 1 ((Option.some Jvm.ClassFile.FieldType.int)))) be_X0_totalTold := by
  intro cl d2 hCl args h Q E ⟨x0, e, hw⟩
  subst e
  exact wx_X0_totalTold hst hCl hw
theorem mb_X0_value {l : Launch} (hst : l.stackTraces = false) {G : GG} {lm : Nat × Nat} : MB l G lm (yX0_value, (ws_ yX0_value cX0_value 1 ((Option.some Jvm.ClassFile.FieldType.int)))) be_X0_value := by
  intro cl d2 hCl args h Q E ⟨x0, e, hw⟩
  subst e
  exact wx_X0_value hst hCl hw
theorem mb_X0_waits {l : Launch} (hst : l.stackTraces = false) {G : GG} {lm : Nat × Nat} : MB l G lm (yX0_waits, (ws_ yX0_waits cX0_waits 1 ((Option.some Jvm.ClassFile.FieldType.int)))) be_X0_waits := by
  intro cl d2 hCl args h Q E ⟨x0, e, hw⟩
  subst e
  exact wx_X0_waits hst hCl hw
theorem mb_X0_which {l : Launch} (hst : l.stackTraces = false) {G : GG} {lm : Nat × Nat} : MB l G lm (yX0_which, (ws_ yX0_which cX0_which 2 ((Option.some Jvm.ClassFile.FieldType.int)))) be_X0_which := by
  intro cl d2 hCl args h Q E ⟨x0, x1, e, hw⟩
  subst e
  exact wx_X0_which hst hCl hw
theorem mb_X0_whichTold {l : Launch} (hst : l.stackTraces = false) {G : GG} {lm : Nat × Nat} : MB l G lm (yX0_whichTold, (ws_ yX0_whichTold cX0_whichTold 4 ((Option.some Jvm.ClassFile.FieldType.int)))) be_X0_whichTold := by
  intro cl d2 hCl args h Q E ⟨x0, x1, e, hw⟩
  subst e
  exact wx_X0_whichTold hst hCl hw
theorem mb_X0_within {l : Launch} (hst : l.stackTraces = false) {G : GG} {lm : Nat × Nat} : MB l G lm (yX0_within, (ws_ yX0_within cX0_within 6 ((Option.none : Option Jvm.ClassFile.FieldType)))) be_X0_within := by
  intro cl d2 hCl args h Q E ⟨x0, x2, x4, e, hw⟩
  subst e
  exact wx_X0_within hst hCl hw
theorem mb_X0_without {l : Launch} (hst : l.stackTraces = false) {G : GG} {lm : Nat × Nat} : MB l G lm (yX0_without, (ws_ yX0_without cX0_without 2 ((Option.some Jvm.ClassFile.FieldType.int)))) be_X0_without := by
  intro cl d2 hCl args h Q E ⟨x0, x1, e, hw⟩
  subst e
  exact wx_X0_without hst hCl hw
theorem mb_X0_withoutTold {l : Launch} (hst : l.stackTraces = false) {G : GG} {lm : Nat × Nat} : MB l G lm (yX0_withoutTold, (ws_ yX0_withoutTold cX0_withoutTold 2 ((Option.some Jvm.ClassFile.FieldType.int)))) be_X0_withoutTold := by
  intro cl d2 hCl args h Q E ⟨x0, x1, e, hw⟩
  subst e
  exact wx_X0_withoutTold hst hCl hw
theorem mb_X1_init {l : Launch} (hst : l.stackTraces = false) {G : GG} {lm : Nat × Nat} : MB l G lm (yX1_init, (ws_ yX1_init cX1_init 1 ((Option.none : Option Jvm.ClassFile.FieldType)))) be_X1_init := by
  intro cl d2 hCl args h Q E ⟨x0, e, hw⟩
  subst e
  exact wx_X1_init hst hCl hw
theorem mb_X1_layAll {l : Launch} (hst : l.stackTraces = false) {G : GG} {lm : Nat × Nat} : MB l G lm (yX1_layAll, (ws_ yX1_layAll cX1_layAll 3 ((Option.none : Option Jvm.ClassFile.FieldType)))) be_X1_layAll := by
  intro cl d2 hCl args h Q E ⟨x0, x1, x2, e, hw⟩
  subst e
  exact wx_X1_layAll hst hCl hw
theorem mb_X2_equals {l : Launch} (hst : l.stackTraces = false) {G : GG} {lm : Nat × Nat} : MB l G lm (yX2_equals, (ws_ yX2_equals cX2_equals 3 ((Option.some Jvm.ClassFile.FieldType.boolean)))) be_X2_equals := by
  intro cl d2 hCl args h Q E ⟨x0, x1, e, hw⟩
  subst e
  exact wx_X2_equals hst hCl hw
theorem mb_X2_hashCode {l : Launch} (hst : l.stackTraces = false) {G : GG} {lm : Nat × Nat} : MB l G lm (yX2_hashCode, (ws_ yX2_hashCode cX2_hashCode 1 ((Option.some Jvm.ClassFile.FieldType.int)))) be_X2_hashCode := by
  intro cl d2 hCl args h Q E ⟨x0, e, hw⟩
  subst e
  exact wx_X2_hashCode hst hCl hw
theorem mb_X2_init {l : Launch} (hst : l.stackTraces = false) {G : GG} {lm : Nat × Nat} : MB l G lm (yX2_init, (ws_ yX2_init cX2_init 2 ((Option.none : Option Jvm.ClassFile.FieldType)))) be_X2_init := by
  intro cl d2 hCl args h Q E ⟨x0, x1, e, hw⟩
  subst e
  exact wx_X2_init hst hCl hw
theorem mb_X2_kind {l : Launch} (hst : l.stackTraces = false) {G : GG} {lm : Nat × Nat} : MB l G lm (yX2_kind, (ws_ yX2_kind cX2_kind 1 ((Option.some Jvm.ClassFile.FieldType.int)))) be_X2_kind := by
  intro cl d2 hCl args h Q E ⟨x0, e, hw⟩
  subst e
  exact wx_X2_kind hst hCl hw
theorem mb_X2_lay {l : Launch} (hst : l.stackTraces = false) {G : GG} {lm : Nat × Nat} : MB l G lm (yX2_lay, (ws_ yX2_lay cX2_lay 3 ((Option.none : Option Jvm.ClassFile.FieldType)))) be_X2_lay := by
  intro cl d2 hCl args h Q E ⟨x0, x1, x2, e, hw⟩
  subst e
  exact wx_X2_lay hst hCl hw
theorem mb_X2_many {l : Launch} (hst : l.stackTraces = false) {G : GG} {lm : Nat × Nat} : MB l G lm (yX2_many, (ws_ yX2_many cX2_many 1 ((Option.some Jvm.ClassFile.FieldType.int)))) be_X2_many := by
  intro cl d2 hCl args h Q E ⟨x0, e, hw⟩
  subst e
  exact wx_X2_many hst hCl hw
theorem mb_X2_size {l : Launch} (hst : l.stackTraces = false) {G : GG} {lm : Nat × Nat} : MB l G lm (yX2_size, (ws_ yX2_size cX2_size 1 ((Option.some Jvm.ClassFile.FieldType.int)))) be_X2_size := by
  intro cl d2 hCl args h Q E ⟨x0, e, hw⟩
  subst e
  exact wx_X2_size hst hCl hw
theorem mb_X2_step {l : Launch} (hst : l.stackTraces = false) {G : GG} {lm : Nat × Nat} : MB l G lm (yX2_step, (ws_ yX2_step cX2_step 2 ((Option.some (Jvm.ClassFile.FieldType.object "GathersAllFaults$Value"))))) be_X2_step := by
  intro cl d2 hCl args h Q E ⟨x0, x1, e, hw⟩
  subst e
  exact wx_X2_step hst hCl hw
theorem mb_X2_total {l : Launch} (hst : l.stackTraces = false) {G : GG} {lm : Nat × Nat} : MB l G lm (yX2_total, (ws_ yX2_total cX2_total 1 ((Option.some Jvm.ClassFile.FieldType.int)))) be_X2_total := by
  intro cl d2 hCl args h Q E ⟨x0, e, hw⟩
  subst e
  exact wx_X2_total hst hCl hw
theorem mb_X2_with {l : Launch} (hst : l.stackTraces = false) {G : GG} {lm : Nat × Nat} : MB l G lm (yX2_with, (ws_ yX2_with cX2_with 3 ((Option.some (Jvm.ClassFile.FieldType.object "GathersAllFaults$Value"))))) be_X2_with := by
  intro cl d2 hCl args h Q E ⟨x0, x1, x2, e, hw⟩
  subst e
  exact wx_X2_with hst hCl hw
theorem mb_X3_again {l : Launch} (hst : l.stackTraces = false) {G : GG} {lm : Nat × Nat} : MB l G lm (yX3_again, (ws_ yX3_again cX3_again 1 ((Option.some (Jvm.ClassFile.FieldType.object "GathersAllFaults$Look"))))) be_X3_again := by
  intro cl d2 hCl args h Q E ⟨x0, e, hw⟩
  subst e
  exact wx_X3_again hst hCl hw
theorem mb_X3_init {l : Launch} (hst : l.stackTraces = false) {G : GG} {lm : Nat × Nat} : MB l G lm (yX3_init, (ws_ yX3_init cX3_init 1 ((Option.none : Option Jvm.ClassFile.FieldType)))) be_X3_init := by
  intro cl d2 hCl args h Q E ⟨x0, e, hw⟩
  subst e
  exact wx_X3_init hst hCl hw
theorem mb_X3_lambda_again_1 {l : Launch} (hst : l.stackTraces = false) {G : GG} {lm : Nat × Nat} : MB l G lm (yX3_lambda_again_1, (ws_ yX3_lambda_again_1 cX3_lambda_again_1 4 ((Option.none : Option Jvm.ClassFile.FieldType)))) be_X3_lambda_again_1 := by
  intro cl d2 hCl args h Q E ⟨x0, x1, x2, x3, e, hw⟩
  subst e
  exact wx_X3_lambda_again_1 hst hCl hw
theorem mb_X3_lambda_new_0 {l : Launch} (hst : l.stackTraces = false) {G : GG} {lm : Nat × Nat} : MB l G lm (yX3_lambda_new_0, (ws_ yX3_lambda_new_0 cX3_lambda_new_0 3 ((Option.none : Option Jvm.ClassFile.FieldType)))) be_X3_lambda_new_0 := by
  intro cl d2 hCl args h Q E ⟨x0, x1, x2, e, hw⟩
  subst e
  exact wx_X3_lambda_new_0 hst hCl hw
theorem mb_X3_of {l : Launch} (hst : l.stackTraces = false) {G : GG} {lm : Nat × Nat} : MB l G lm (yX3_of, (ws_ yX3_of cX3_of 2 ((Option.some (Jvm.ClassFile.FieldType.object "GathersAllFaults$Finding"))))) be_X3_of := by
  intro cl d2 hCl args h Q E ⟨x0, x1, e, hw⟩
  subst e
  exact wx_X3_of hst hCl hw
theorem mb_X4_emptied {l : Launch} (hst : l.stackTraces = false) {G : GG} {lm : Nat × Nat} : MB l G lm (yX4_emptied, (ws_ yX4_emptied cX4_emptied 1 ((Option.some (Jvm.ClassFile.FieldType.object "GathersAllFaults$Sink"))))) be_X4_emptied := by
  intro cl d2 hCl args h Q E ⟨x0, e, hw⟩
  subst e
  exact wx_X4_emptied hst hCl hw
theorem mb_X4_finding {l : Launch} (hst : l.stackTraces = false) {G : GG} {lm : Nat × Nat} : MB l G lm (yX4_finding, (ws_ yX4_finding cX4_finding 2 ((Option.some (Jvm.ClassFile.FieldType.object "GathersAllFaults$Finding"))))) be_X4_finding := by
  intro cl d2 hCl args h Q E ⟨x0, e, hw⟩
  subst e
  exact wx_X4_finding hst hCl hw
theorem mb_X4_found {l : Launch} (hst : l.stackTraces = false) {G : GG} {lm : Nat × Nat} : MB l G lm (yX4_found, (ws_ yX4_found cX4_found 4 ((Option.some (Jvm.ClassFile.FieldType.object "GathersAllFaults$Found"))))) be_X4_found := by
  intro cl d2 hCl args h Q E ⟨x0, x1, x2, e, hw⟩
  subst e
  exact wx_X4_found hst hCl hw
theorem mb_X4_init {l : Launch} (hst : l.stackTraces = false) {G : GG} {lm : Nat × Nat} : MB l G lm (yX4_init, (ws_ yX4_init cX4_init 1 ((Option.none : Option Jvm.ClassFile.FieldType)))) be_X4_init := by
  intro cl d2 hCl args h Q E ⟨x0, e, hw⟩
  subst e
  exact wx_X4_init hst hCl hw
theorem mb_X5_equals {l : Launch} (hst : l.stackTraces = false) {G : GG} {lm : Nat × Nat} : MB l G lm (yX5_equals, (ws_ yX5_equals cX5_equals 2 ((Option.some Jvm.ClassFile.FieldType.boolean)))) be_X5_equals := by
  intro cl d2 hCl args h Q E ⟨x0, x1, e, hw⟩
  subst e
  exact wx_X5_equals hst hCl hw
theorem mb_X5_hashCode {l : Launch} (hst : l.stackTraces = false) {G : GG} {lm : Nat × Nat} : MB l G lm (yX5_hashCode, (ws_ yX5_hashCode cX5_hashCode 1 ((Option.some Jvm.ClassFile.FieldType.int)))) be_X5_hashCode := by
  intro cl d2 hCl args h Q E ⟨x0, e, hw⟩
  subst e
  exact wx_X5_hashCode hst hCl hw
theorem mb_X5_init {l : Launch} (hst : l.stackTraces = false) {G : GG} {lm : Nat × Nat} : MB l G lm (yX5_init, (ws_ yX5_init cX5_init 1 ((Option.none : Option Jvm.ClassFile.FieldType)))) be_X5_init := by
  intro cl d2 hCl args h Q E ⟨x0, e, hw⟩
  subst e
  exact wx_X5_init hst hCl hw
theorem mb_X5_kind {l : Launch} (hst : l.stackTraces = false) {G : GG} {lm : Nat × Nat} : MB l G lm (yX5_kind, (ws_ yX5_kind cX5_kind 1 ((Option.some Jvm.ClassFile.FieldType.int)))) be_X5_kind := by
  intro cl d2 hCl args h Q E ⟨x0, e, hw⟩
  subst e
  exact wx_X5_kind hst hCl hw
theorem mb_X5_lay {l : Launch} (hst : l.stackTraces = false) {G : GG} {lm : Nat × Nat} : MB l G lm (yX5_lay, (ws_ yX5_lay cX5_lay 3 ((Option.none : Option Jvm.ClassFile.FieldType)))) be_X5_lay := by
  intro cl d2 hCl args h Q E ⟨x0, x1, x2, e, hw⟩
  subst e
  exact wx_X5_lay hst hCl hw
theorem mb_X5_many {l : Launch} (hst : l.stackTraces = false) {G : GG} {lm : Nat × Nat} : MB l G lm (yX5_many, (ws_ yX5_many cX5_many 1 ((Option.some Jvm.ClassFile.FieldType.int)))) be_X5_many := by
  intro cl d2 hCl args h Q E ⟨x0, e, hw⟩
  subst e
  exact wx_X5_many hst hCl hw
theorem mb_X5_size {l : Launch} (hst : l.stackTraces = false) {G : GG} {lm : Nat × Nat} : MB l G lm (yX5_size, (ws_ yX5_size cX5_size 1 ((Option.some Jvm.ClassFile.FieldType.int)))) be_X5_size := by
  intro cl d2 hCl args h Q E ⟨x0, e, hw⟩
  subst e
  exact wx_X5_size hst hCl hw
theorem mb_X5_step {l : Launch} (hst : l.stackTraces = false) {G : GG} {lm : Nat × Nat} : MB l G lm (yX5_step, (ws_ yX5_step cX5_step 2 ((Option.some (Jvm.ClassFile.FieldType.object "GathersAllFaults$Value"))))) be_X5_step := by
  intro cl d2 hCl args h Q E ⟨x0, x1, e, hw⟩
  subst e
  exact wx_X5_step hst hCl hw
theorem mb_X5_total {l : Launch} (hst : l.stackTraces = false) {G : GG} {lm : Nat × Nat} : MB l G lm (yX5_total, (ws_ yX5_total cX5_total 1 ((Option.some Jvm.ClassFile.FieldType.int)))) be_X5_total := by
  intro cl d2 hCl args h Q E ⟨x0, e, hw⟩
  subst e
  exact wx_X5_total hst hCl hw
theorem mb_X5_with {l : Launch} (hst : l.stackTraces = false) {G : GG} {lm : Nat × Nat} : MB l G lm (yX5_with, (ws_ yX5_with cX5_with 3 ((Option.some (Jvm.ClassFile.FieldType.object "GathersAllFaults$Value"))))) be_X5_with := by
  intro cl d2 hCl args h Q E ⟨x0, x1, x2, e, hw⟩
  subst e
  exact wx_X5_with hst hCl hw
theorem mb_X6_init {l : Launch} (hst : l.stackTraces = false) {G : GG} {lm : Nat × Nat} : MB l G lm (yX6_init, (ws_ yX6_init cX6_init 1 ((Option.none : Option Jvm.ClassFile.FieldType)))) be_X6_init := by
  intro cl d2 hCl args h Q E ⟨x0, e, hw⟩
  subst e
  exact wx_X6_init hst hCl hw
theorem mb_X6_isHolding {l : Launch} (hst : l.stackTraces = false) {G : GG} {lm : Nat × Nat} : MB l G lm (yX6_isHolding, (ws_ yX6_isHolding cX6_isHolding 2 ((Option.some Jvm.ClassFile.FieldType.boolean)))) be_X6_isHolding := by
  intro cl d2 hCl args h Q E ⟨x0, x1, e, hw⟩
  subst e
  exact wx_X6_isHolding hst hCl hw
theorem mb_X6_many {l : Launch} (hst : l.stackTraces = false) {G : GG} {lm : Nat × Nat} : MB l G lm (yX6_many, (ws_ yX6_many cX6_many 2 ((Option.some Jvm.ClassFile.FieldType.int)))) be_X6_many := by
  intro cl d2 hCl args h Q E ⟨x0, x1, e, hw⟩
  subst e
  exact wx_X6_many hst hCl hw
theorem mb_X6_measures {l : Launch} (hst : l.stackTraces = false) {G : GG} {lm : Nat × Nat} : MB l G lm (yX6_measures, (ws_ yX6_measures cX6_measures 4 ((Option.none : Option Jvm.ClassFile.FieldType)))) be_X6_measures := by
  intro cl d2 hCl args h Q E ⟨x0, e, hw⟩
  subst e
  exact wx_X6_measures hst hCl hw
theorem mb_X8_init {l : Launch} (hst : l.stackTraces = false) {G : GG} {lm : Nat × Nat} : MB l G lm (yX8_init, (ws_ yX8_init cX8_init 2 ((Option.none : Option Jvm.ClassFile.FieldType)))) be_X8_init := by
  intro cl d2 hCl args h Q E ⟨x0, x1, e, hw⟩
  subst e
  exact wx_X8_init hst hCl hw
theorem mb_X8_number {l : Launch} (hst : l.stackTraces = false) {G : GG} {lm : Nat × Nat} : MB l G lm (yX8_number, (ws_ yX8_number cX8_number 1 ((Option.some Jvm.ClassFile.FieldType.int)))) be_X8_number := by
  intro cl d2 hCl args h Q E ⟨x0, e, hw⟩
  subst e
  exact wx_X8_number hst hCl hw
theorem mb_X9_check {l : Launch} (hst : l.stackTraces = false) {G : GG} {lm : Nat × Nat} : MB l G lm (yX9_check, (ws_ yX9_check cX9_check 10 ((Option.some (Jvm.ClassFile.FieldType.object "GathersAllFaults$Look"))))) be_X9_check := by
  intro cl d2 hCl args h Q E ⟨x0, x1, x2, e, hw⟩
  subst e
  exact wx_X9_check hst hCl hw
theorem mb_X9_digit {l : Launch} (hst : l.stackTraces = false) {G : GG} {lm : Nat × Nat} : MB l G lm (yX9_digit, (ws_ yX9_digit cX9_digit 1 ((Option.some Jvm.ClassFile.FieldType.int)))) be_X9_digit := by
  intro cl d2 hCl args h Q E ⟨x0, e, hw⟩
  subst e
  exact wx_X9_digit hst hCl hw
theorem mb_X9_end {l : Launch} (hst : l.stackTraces = false) {G : GG} {lm : Nat × Nat} : MB l G lm (yX9_end, (ws_ yX9_end cX9_end 1 ((Option.none : Option Jvm.ClassFile.FieldType)))) be_X9_end := by
  intro cl d2 hCl args h Q E ⟨x0, e, hw⟩
  subst e
  exact wx_X9_end hst hCl hw
theorem mb_X9_here {l : Launch} (hst : l.stackTraces = false) {G : GG} {lm : Nat × Nat} : MB l G lm (yX9_here, (ws_ yX9_here cX9_here 1 ((Option.some Jvm.ClassFile.FieldType.int)))) be_X9_here := by
  intro cl d2 hCl args h Q E ⟨x0, e, hw⟩
  subst e
  exact wx_X9_here hst hCl hw
theorem mb_X9_init {l : Launch} (hst : l.stackTraces = false) {G : GG} {lm : Nat × Nat} : MB l G lm (yX9_init, (ws_ yX9_init cX9_init 2 ((Option.none : Option Jvm.ClassFile.FieldType)))) be_X9_init := by
  intro cl d2 hCl args h Q E ⟨x0, x1, e, hw⟩
  subst e
  exact wx_X9_init hst hCl hw
theorem mb_X9_lambda_check_0 {l : Launch} (hst : l.stackTraces = false) {G : GG} {lm : Nat × Nat} : MB l G lm (yX9_lambda_check_0, (ws_ yX9_lambda_check_0 cX9_lambda_check_0 3 ((Option.none : Option Jvm.ClassFile.FieldType)))) be_X9_lambda_check_0 := by
  intro cl d2 hCl args h Q E ⟨x0, x1, x2, e, hw⟩
  subst e
  exact wx_X9_lambda_check_0 hst hCl hw
theorem mb_X9_lambda_record_1 {l : Launch} (hst : l.stackTraces = false) {G : GG} {lm : Nat × Nat} : MB l G lm (yX9_lambda_record_1, (ws_ yX9_lambda_record_1 cX9_lambda_record_1 2 ((Option.some Jvm.ClassFile.FieldType.boolean)))) be_X9_lambda_record_1 := by
  intro cl d2 hCl args h Q E ⟨x0, x1, e, hw⟩
  subst e
  exact wx_X9_lambda_record_1 hst hCl hw
theorem mb_X9_lambda_record_2 {l : Launch} (hst : l.stackTraces = false) {G : GG} {lm : Nat × Nat} : MB l G lm (yX9_lambda_record_2, (ws_ yX9_lambda_record_2 cX9_lambda_record_2 2 ((Option.some Jvm.ClassFile.FieldType.boolean)))) be_X9_lambda_record_2 := by
  intro cl d2 hCl args h Q E ⟨x0, x1, e, hw⟩
  subst e
  exact wx_X9_lambda_record_2 hst hCl hw
theorem mb_X9_list {l : Launch} (hst : l.stackTraces = false) {G : GG} {lm : Nat × Nat} : MB l G lm (yX9_list, (ws_ yX9_list cX9_list 6 ((Option.some (Jvm.ClassFile.FieldType.object "GathersAllFaults$Value"))))) be_X9_list := by
  intro cl d2 hCl args h Q E ⟨x0, x1, e, hw⟩
  subst e
  exact wx_X9_list hst hCl hw
theorem mb_X9_mustStand {l : Launch} (hst : l.stackTraces = false) {G : GG} {lm : Nat × Nat} : MB l G lm (yX9_mustStand, (ws_ yX9_mustStand cX9_mustStand 2 ((Option.none : Option Jvm.ClassFile.FieldType)))) be_X9_mustStand := by
  intro cl d2 hCl args h Q E ⟨x0, x1, e, hw⟩
  subst e
  exact wx_X9_mustStand hst hCl hw
theorem mb_X9_name {l : Launch} (hst : l.stackTraces = false) {G : GG} {lm : Nat × Nat} : MB l G lm (yX9_name, (ws_ yX9_name cX9_name 1 ((Option.some Jvm.ClassFile.FieldType.int)))) be_X9_name := by
  intro cl d2 hCl args h Q E ⟨x0, e, hw⟩
  subst e
  exact wx_X9_name hst hCl hw
theorem mb_X9_pair {l : Launch} (hst : l.stackTraces = false) {G : GG} {lm : Nat × Nat} : MB l G lm (yX9_pair, (ws_ yX9_pair cX9_pair 2 ((Option.some Jvm.ClassFile.FieldType.int)))) be_X9_pair := by
  intro cl d2 hCl args h Q E ⟨x0, e, hw⟩
  subst e
  exact wx_X9_pair hst hCl hw
theorem mb_X9_rec {l : Launch} (hst : l.stackTraces = false) {G : GG} {lm : Nat × Nat} : MB l G lm (yX9_rec, (ws_ yX9_rec cX9_rec 5 ((Option.some (Jvm.ClassFile.FieldType.object "GathersAllFaults$Value"))))) be_X9_rec := by
  intro cl d2 hCl args h Q E ⟨x0, x1, e, hw⟩
  subst e
  exact wx_X9_rec hst hCl hw
theorem mb_X9_record {l : Launch} (hst : l.stackTraces = false) {G : GG} {lm : Nat × Nat} : MB l G lm (yX9_record, (ws_ yX9_record cX9_record 8 ((Option.some (Jvm.ClassFile.FieldType.object "GathersAllFaults$Look"))))) be_X9_record := by
  intro cl d2 hCl args h Q E ⟨x0, x1, e, hw⟩
  subst e
  exact wx_X9_record hst hCl hw
theorem mb_X9_take {l : Launch} (hst : l.stackTraces = false) {G : GG} {lm : Nat × Nat} : MB l G lm (yX9_take, (ws_ yX9_take cX9_take 2 ((Option.none : Option Jvm.ClassFile.FieldType)))) be_X9_take := by
  intro cl d2 hCl args h Q E ⟨x0, x1, e, hw⟩
  subst e
  exact wx_X9_take hst hCl hw
theorem mb_X9_under {l : Launch} (hst : l.stackTraces = false) {G : GG} {lm : Nat × Nat} : MB l G lm (yX9_under, (ws_ yX9_under cX9_under 3 ((Option.some Jvm.ClassFile.FieldType.int)))) be_X9_under := by
  intro cl d2 hCl args h Q E ⟨x0, x1, x2, e, hw⟩
  subst e
  exact wx_X9_under hst hCl hw
theorem mb_X9_value {l : Launch} (hst : l.stackTraces = false) {G : GG} {lm : Nat × Nat} : MB l G lm (yX9_value, (ws_ yX9_value cX9_value 5 ((Option.some (Jvm.ClassFile.FieldType.object "GathersAllFaults$Value"))))) be_X9_value := by
  intro cl d2 hCl args h Q E ⟨x0, x1, e, hw⟩
  subst e
  exact wx_X9_value hst hCl hw
theorem mb_X9_wrong {l : Launch} (hst : l.stackTraces = false) {G : GG} {lm : Nat × Nat} : MB l G lm (yX9_wrong, (ws_ yX9_wrong cX9_wrong 3 ((Option.none : Option Jvm.ClassFile.FieldType)))) be_X9_wrong := by
  intro cl d2 hCl args h Q E ⟨x0, x1, x2, e, hw⟩
  subst e
  exact wx_X9_wrong hst hCl hw
theorem mb_X10_init {l : Launch} (hst : l.stackTraces = false) {G : GG} {lm : Nat × Nat} : MB l G lm (yX10_init, (ws_ yX10_init cX10_init 2 ((Option.none : Option Jvm.ClassFile.FieldType)))) be_X10_init := by
  intro cl d2 hCl args h Q E ⟨x0, x1, e, hw⟩
  subst e
  exact wx_X10_init hst hCl hw
theorem mb_X10_number {l : Launch} (hst : l.stackTraces = false) {G : GG} {lm : Nat × Nat} : MB l G lm (yX10_number, (ws_ yX10_number cX10_number 1 ((Option.some Jvm.ClassFile.FieldType.int)))) be_X10_number := by
  intro cl d2 hCl args h Q E ⟨x0, e, hw⟩
  subst e
  exact wx_X10_number hst hCl hw
theorem mb_X11_equals {l : Launch} (hst : l.stackTraces = false) {G : GG} {lm : Nat × Nat} : MB l G lm (yX11_equals, (ws_ yX11_equals cX11_equals 7 ((Option.some Jvm.ClassFile.FieldType.boolean)))) be_X11_equals := by
  intro cl d2 hCl args h Q E ⟨x0, x1, e, hw⟩
  subst e
  exact wx_X11_equals hst hCl hw
theorem mb_X11_hashCode {l : Launch} (hst : l.stackTraces = false) {G : GG} {lm : Nat × Nat} : MB l G lm (yX11_hashCode, (ws_ yX11_hashCode cX11_hashCode 6 ((Option.some Jvm.ClassFile.FieldType.int)))) be_X11_hashCode := by
  intro cl d2 hCl args h Q E ⟨x0, e, hw⟩
  subst e
  exact wx_X11_hashCode hst hCl hw
theorem mb_X11_init {l : Launch} (hst : l.stackTraces = false) {G : GG} {lm : Nat × Nat} : MB l G lm (yX11_init, (ws_ yX11_init cX11_init 5 ((Option.none : Option Jvm.ClassFile.FieldType)))) be_X11_init := by
  intro cl d2 hCl args h Q E ⟨x0, x1, e, hw⟩
  subst e
  exact wx_X11_init hst hCl hw
theorem mb_X11_kind {l : Launch} (hst : l.stackTraces = false) {G : GG} {lm : Nat × Nat} : MB l G lm (yX11_kind, (ws_ yX11_kind cX11_kind 1 ((Option.some Jvm.ClassFile.FieldType.int)))) be_X11_kind := by
  intro cl d2 hCl args h Q E ⟨x0, e, hw⟩
  subst e
  exact wx_X11_kind hst hCl hw
theorem mb_X11_lay {l : Launch} (hst : l.stackTraces = false) {G : GG} {lm : Nat × Nat} : MB l G lm (yX11_lay, (ws_ yX11_lay cX11_lay 7 ((Option.none : Option Jvm.ClassFile.FieldType)))) be_X11_lay := by
  intro cl d2 hCl args h Q E ⟨x0, x1, x2, e, hw⟩
  subst e
  exact wx_X11_lay hst hCl hw
theorem mb_X11_many {l : Launch} (hst : l.stackTraces = false) {G : GG} {lm : Nat × Nat} : MB l G lm (yX11_many, (ws_ yX11_many cX11_many 1 ((Option.some Jvm.ClassFile.FieldType.int)))) be_X11_many := by
  intro cl d2 hCl args h Q E ⟨x0, e, hw⟩
  subst e
  exact wx_X11_many hst hCl hw
theorem mb_X11_size {l : Launch} (hst : l.stackTraces = false) {G : GG} {lm : Nat × Nat} : MB l G lm (yX11_size, (ws_ yX11_size cX11_size 6 ((Option.some Jvm.ClassFile.FieldType.int)))) be_X11_size := by
  intro cl d2 hCl args h Q E ⟨x0, e, hw⟩
  subst e
  exact wx_X11_size hst hCl hw
theorem mb_X11_step {l : Launch} (hst : l.stackTraces = false) {G : GG} {lm : Nat × Nat} : MB l G lm (yX11_step, (ws_ yX11_step cX11_step 2 ((Option.some (Jvm.ClassFile.FieldType.object "GathersAllFaults$Value"))))) be_X11_step := by
  intro cl d2 hCl args h Q E ⟨x0, x1, e, hw⟩
  subst e
  exact wx_X11_step hst hCl hw
theorem mb_X11_total {l : Launch} (hst : l.stackTraces = false) {G : GG} {lm : Nat × Nat} : MB l G lm (yX11_total, (ws_ yX11_total cX11_total 6 ((Option.some Jvm.ClassFile.FieldType.int)))) be_X11_total := by
  intro cl d2 hCl args h Q E ⟨x0, e, hw⟩
  subst e
  exact wx_X11_total hst hCl hw
theorem mb_X11_with {l : Launch} (hst : l.stackTraces = false) {G : GG} {lm : Nat × Nat} : MB l G lm (yX11_with, (ws_ yX11_with cX11_with 9 ((Option.some (Jvm.ClassFile.FieldType.object "GathersAllFaults$Value"))))) be_X11_with := by
  intro cl d2 hCl args h Q E ⟨x0, x1, x2, e, hw⟩
  subst e
  exact wx_X11_with hst hCl hw
theorem mb_X12_equals {l : Launch} (hst : l.stackTraces = false) {G : GG} {lm : Nat × Nat} : MB l G lm (yX12_equals, (ws_ yX12_equals cX12_equals 4 ((Option.some Jvm.ClassFile.FieldType.boolean)))) be_X12_equals := by
  intro cl d2 hCl args h Q E ⟨x0, x1, e, hw⟩
  subst e
  exact wx_X12_equals hst hCl hw
theorem mb_X12_hashCode {l : Launch} (hst : l.stackTraces = false) {G : GG} {lm : Nat × Nat} : MB l G lm (yX12_hashCode, (ws_ yX12_hashCode cX12_hashCode 6 ((Option.some Jvm.ClassFile.FieldType.int)))) be_X12_hashCode := by
  intro cl d2 hCl args h Q E ⟨x0, e, hw⟩
  subst e
  exact wx_X12_hashCode hst hCl hw
theorem mb_X12_init {l : Launch} (hst : l.stackTraces = false) {G : GG} {lm : Nat × Nat} : MB l G lm (yX12_init, (ws_ yX12_init cX12_init 2 ((Option.none : Option Jvm.ClassFile.FieldType)))) be_X12_init := by
  intro cl d2 hCl args h Q E ⟨x0, x1, e, hw⟩
  subst e
  exact wx_X12_init hst hCl hw
theorem mb_X12_isAhead {l : Launch} (hst : l.stackTraces = false) {G : GG} {lm : Nat × Nat} : MB l G lm (yX12_isAhead, (ws_ yX12_isAhead cX12_isAhead 3 ((Option.some Jvm.ClassFile.FieldType.boolean)))) be_X12_isAhead := by
  intro cl d2 hCl args h Q E ⟨x0, x1, e, hw⟩
  subst e
  exact wx_X12_isAhead hst hCl hw
theorem mb_X12_kind {l : Launch} (hst : l.stackTraces = false) {G : GG} {lm : Nat × Nat} : MB l G lm (yX12_kind, (ws_ yX12_kind cX12_kind 1 ((Option.some Jvm.ClassFile.FieldType.int)))) be_X12_kind := by
  intro cl d2 hCl args h Q E ⟨x0, e, hw⟩
  subst e
  exact wx_X12_kind hst hCl hw
theorem mb_X12_lay {l : Launch} (hst : l.stackTraces = false) {G : GG} {lm : Nat × Nat} : MB l G lm (yX12_lay, (ws_ yX12_lay cX12_lay 4 ((Option.none : Option Jvm.ClassFile.FieldType)))) be_X12_lay := by
  intro cl d2 hCl args h Q E ⟨x0, x1, x2, e, hw⟩
  subst e
  exact wx_X12_lay hst hCl hw
theorem mb_X12_many {l : Launch} (hst : l.stackTraces = false) {G : GG} {lm : Nat × Nat} : MB l G lm (yX12_many, (ws_ yX12_many cX12_many 1 ((Option.some Jvm.ClassFile.FieldType.int)))) be_X12_many := by
  intro cl d2 hCl args h Q E ⟨x0, e, hw⟩
  subst e
  exact wx_X12_many hst hCl hw
theorem mb_X12_size {l : Launch} (hst : l.stackTraces = false) {G : GG} {lm : Nat × Nat} : MB l G lm (yX12_size, (ws_ yX12_size cX12_size 6 ((Option.some Jvm.ClassFile.FieldType.int)))) be_X12_size := by
  intro cl d2 hCl args h Q E ⟨x0, e, hw⟩
  subst e
  exact wx_X12_size hst hCl hw
theorem mb_X12_step {l : Launch} (hst : l.stackTraces = false) {G : GG} {lm : Nat × Nat} : MB l G lm (yX12_step, (ws_ yX12_step cX12_step 3 ((Option.some (Jvm.ClassFile.FieldType.object "GathersAllFaults$Value"))))) be_X12_step := by
  intro cl d2 hCl args h Q E ⟨x0, x1, e, hw⟩
  subst e
  exact wx_X12_step hst hCl hw
theorem mb_X12_total {l : Launch} (hst : l.stackTraces = false) {G : GG} {lm : Nat × Nat} : MB l G lm (yX12_total, (ws_ yX12_total cX12_total 6 ((Option.some Jvm.ClassFile.FieldType.int)))) be_X12_total := by
  intro cl d2 hCl args h Q E ⟨x0, e, hw⟩
  subst e
  exact wx_X12_total hst hCl hw
theorem mb_X12_with {l : Launch} (hst : l.stackTraces = false) {G : GG} {lm : Nat × Nat} : MB l G lm (yX12_with, (ws_ yX12_with cX12_with 8 ((Option.some (Jvm.ClassFile.FieldType.object "GathersAllFaults$Value"))))) be_X12_with := by
  intro cl d2 hCl args h Q E ⟨x0, x1, x2, e, hw⟩
  subst e
  exact wx_X12_with hst hCl hw
theorem mb_X13_init {l : Launch} (hst : l.stackTraces = false) {G : GG} {lm : Nat × Nat} : MB l G lm (yX13_init, (ws_ yX13_init cX13_init 1 ((Option.none : Option Jvm.ClassFile.FieldType)))) be_X13_init := by
  intro cl d2 hCl args h Q E ⟨x0, e, hw⟩
  subst e
  exact wx_X13_init hst hCl hw
theorem mb_X13_of {l : Launch} (hst : l.stackTraces = false) {G : GG} {lm : Nat × Nat} : MB l G lm (yX13_of, (ws_ yX13_of cX13_of 3 ((Option.some (Jvm.ClassFile.FieldType.object "GathersAllFaults$Found"))))) be_X13_of := by
  intro cl d2 hCl args h Q E ⟨x0, x1, x2, e, hw⟩
  subst e
  exact wx_X13_of hst hCl hw
theorem mb_X13_path {l : Launch} (hst : l.stackTraces = false) {G : GG} {lm : Nat × Nat} : MB l G lm (yX13_path, (ws_ yX13_path cX13_path 1 ((Option.some Jvm.ClassFile.FieldType.int)))) be_X13_path := by
  intro cl d2 hCl args h Q E ⟨x0, e, hw⟩
  subst e
  exact wx_X13_path hst hCl hw
theorem mb_X13_told {l : Launch} (hst : l.stackTraces = false) {G : GG} {lm : Nat × Nat} : MB l G lm (yX13_told, (ws_ yX13_told cX13_told 1 ((Option.some Jvm.ClassFile.FieldType.int)))) be_X13_told := by
  intro cl d2 hCl args h Q E ⟨x0, e, hw⟩
  subst e
  exact wx_X13_told hst hCl hw
theorem mb_X14_dependent {l : Launch} (hst : l.stackTraces = false) {G : GG} {lm : Nat × Nat} : MB l G lm (yX14_dependent, (ws_ yX14_dependent cX14_dependent 8 ((Option.none : Option Jvm.ClassFile.FieldType)))) be_X14_dependent := by
  intro cl d2 hCl args h Q E ⟨x0, x1, x2, x3, x4, e, hw⟩
  subst e
  exact wx_X14_dependent hst hCl hw
theorem mb_X14_field {l : Launch} (hst : l.stackTraces = false) {G : GG} {lm : Nat × Nat} : MB l G lm (yX14_field, (ws_ yX14_field cX14_field 4 ((Option.none : Option Jvm.ClassFile.FieldType)))) be_X14_field := by
  intro cl d2 hCl args h Q E ⟨x0, x1, x2, x3, e, hw⟩
  subst e
  exact wx_X14_field hst hCl hw
theorem mb_X14_hangs {l : Launch} (hst : l.stackTraces = false) {G : GG} {lm : Nat × Nat} : MB l G lm (yX14_hangs, (ws_ yX14_hangs cX14_hangs 5 ((Option.none : Option Jvm.ClassFile.FieldType)))) be_X14_hangs := by
  intro cl d2 hCl args h Q E ⟨x0, x1, x2, x3, x4, e, hw⟩
  subst e
  exact wx_X14_hangs hst hCl hw
theorem mb_X14_independent {l : Launch} (hst : l.stackTraces = false) {G : GG} {lm : Nat × Nat} : MB l G lm (yX14_independent, (ws_ yX14_independent cX14_independent 8 ((Option.none : Option Jvm.ClassFile.FieldType)))) be_X14_independent := by
  intro cl d2 hCl args h Q E ⟨x0, x1, x2, x3, e, hw⟩
  subst e
  exact wx_X14_independent hst hCl hw
theorem mb_X14_init {l : Launch} (hst : l.stackTraces = false) {G : GG} {lm : Nat × Nat} : MB l G lm (yX14_init, (ws_ yX14_init cX14_init 1 ((Option.none : Option Jvm.ClassFile.FieldType)))) be_X14_init := by
  intro cl d2 hCl args h Q E ⟨x0, e, hw⟩
  subst e
  exact wx_X14_init hst hCl hw
theorem mb_X14_isField {l : Launch} (hst : l.stackTraces = false) {G : GG} {lm : Nat × Nat} : MB l G lm (yX14_isField, (ws_ yX14_isField cX14_isField 3 ((Option.some Jvm.ClassFile.FieldType.boolean)))) be_X14_isField := by
  intro cl d2 hCl args h Q E ⟨x0, x1, e, hw⟩
  subst e
  exact wx_X14_isField hst hCl hw
theorem mb_X14_look {l : Launch} (hst : l.stackTraces = false) {G : GG} {lm : Nat × Nat} : MB l G lm (yX14_look, (ws_ yX14_look cX14_look 1 ((Option.some (Jvm.ClassFile.FieldType.object "GathersAllFaults$Look"))))) be_X14_look := by
  intro cl d2 hCl args h Q E ⟨x0, e, hw⟩
  subst e
  exact wx_X14_look hst hCl hw
theorem mb_X14_lookAt {l : Launch} (hst : l.stackTraces = false) {G : GG} {lm : Nat × Nat} : MB l G lm (yX14_lookAt, (ws_ yX14_lookAt cX14_lookAt 8 ((Option.none : Option Jvm.ClassFile.FieldType)))) be_X14_lookAt := by
  intro cl d2 hCl args h Q E ⟨x0, x1, x2, x3, e, hw⟩
  subst e
  exact wx_X14_lookAt hst hCl hw
theorem mb_X15_init {l : Launch} (hst : l.stackTraces = false) {G : GG} {lm : Nat × Nat} : MB l G lm (yX15_init, (ws_ yX15_init cX15_init 4 ((Option.none : Option Jvm.ClassFile.FieldType)))) be_X15_init := by
  intro cl d2 hCl args h Q E ⟨x0, x1, x2, x3, e, hw⟩
  subst e
  exact wx_X15_init hst hCl hw
theorem mb_X16_init {l : Launch} (hst : l.stackTraces = false) {G : GG} {lm : Nat × Nat} : MB l G lm (yX16_init, (ws_ yX16_init cX16_init 5 ((Option.none : Option Jvm.ClassFile.FieldType)))) be_X16_init := by
  intro cl d2 hCl args h Q E ⟨x0, x1, x2, x3, x4, e, hw⟩
  subst e
  exact wx_X16_init hst hCl hw
theorem mb_X17_and {l : Launch} (hst : l.stackTraces = false) {G : GG} {lm : Nat × Nat} : MB l G lm (yX17_and, (ws_ yX17_and cX17_and 2 ((Option.some (Jvm.ClassFile.FieldType.object "GathersAllFaults$Finding"))))) be_X17_and := by
  intro cl d2 hCl args h Q E ⟨x0, x1, e, hw⟩
  subst e
  exact wx_X17_and hst hCl hw
theorem mb_X17_below {l : Launch} (hst : l.stackTraces = false) {G : GG} {lm : Nat × Nat} : MB l G lm (yX17_below, (ws_ yX17_below cX17_below 2 ((Option.some Jvm.ClassFile.FieldType.int)))) be_X17_below := by
  intro cl d2 hCl args h Q E ⟨x0, x1, e, hw⟩
  subst e
  exact wx_X17_below hst hCl hw
theorem mb_X17_emptied {l : Launch} (hst : l.stackTraces = false) {G : GG} {lm : Nat × Nat} : MB l G lm (yX17_emptied, (ws_ yX17_emptied cX17_emptied 1 ((Option.some (Jvm.ClassFile.FieldType.object "GathersAllFaults$Finding"))))) be_X17_emptied := by
  intro cl d2 hCl args h Q E ⟨x0, e, hw⟩
  subst e
  exact wx_X17_emptied hst hCl hw
theorem mb_X17_finds {l : Launch} (hst : l.stackTraces = false) {G : GG} {lm : Nat × Nat} : MB l G lm (yX17_finds, (ws_ yX17_finds cX17_finds 3 ((Option.none : Option Jvm.ClassFile.FieldType)))) be_X17_finds := by
  intro cl d2 hCl args h Q E ⟨x0, x1, x2, e, hw⟩
  subst e
  exact wx_X17_finds hst hCl hw
theorem mb_X17_init {l : Launch} (hst : l.stackTraces = false) {G : GG} {lm : Nat × Nat} : MB l G lm (yX17_init, (ws_ yX17_init cX17_init 2 ((Option.none : Option Jvm.ClassFile.FieldType)))) be_X17_init := by
  intro cl d2 hCl args h Q E ⟨x0, x1, e, hw⟩
  subst e
  exact wx_X17_init hst hCl hw
theorem mb_X17_isNone {l : Launch} (hst : l.stackTraces = false) {G : GG} {lm : Nat × Nat} : MB l G lm (yX17_isNone, (ws_ yX17_isNone cX17_isNone 1 ((Option.some Jvm.ClassFile.FieldType.boolean)))) be_X17_isNone := by
  intro cl d2 hCl args h Q E ⟨x0, e, hw⟩
  subst e
  exact wx_X17_isNone hst hCl hw
theorem mb_X18_add {l : Launch} (hst : l.stackTraces = false) {G : GG} {lm : Nat × Nat} : MB l G lm (yX18_add, (ws_ yX18_add cX18_add 3 ((Option.none : Option Jvm.ClassFile.FieldType)))) be_X18_add := by
  intro cl d2 hCl args h Q E ⟨x0, x1, e, hw⟩
  subst e
  exact wx_X18_add hst hCl hw
theorem mb_X18_addAll {l : Launch} (hst : l.stackTraces = false) {G : GG} {lm : Nat × Nat} : MB l G lm (yX18_addAll, (ws_ yX18_addAll cX18_addAll 3 ((Option.none : Option Jvm.ClassFile.FieldType)))) be_X18_addAll := by
  intro cl d2 hCl args h Q E ⟨x0, x1, e, hw⟩
  subst e
  exact wx_X18_addAll hst hCl hw
theorem mb_X18_at {l : Launch} (hst : l.stackTraces = false) {G : GG} {lm : Nat × Nat} : MB l G lm (yX18_at, (wsW_ yX18_at cX18_at 3 ((Option.some (Jvm.ClassFile.FieldType.object "GathersAllFaults$Placed"))) [(0, 28, 29, 31)])) be_X18_at := by
  intro cl d2 hCl args h Q E ⟨x0, x1, e, hw⟩
  subst e
  exact wx_X18_at hst hCl hw
theorem mb_X18_below {l : Launch} (hst : l.stackTraces = false) {G : GG} {lm : Nat × Nat} : MB l G lm (yX18_below, (ws_ yX18_below cX18_below 4 ((Option.some Jvm.ClassFile.FieldType.int)))) be_X18_below := by
  intro cl d2 hCl args h Q E ⟨x0, x1, e, hw⟩
  subst e
  exact wx_X18_below hst hCl hw
theorem mb_X18_empties {l : Launch} (hst : l.stackTraces = false) {G : GG} {lm : Nat × Nat} : MB l G lm (yX18_empties, (ws_ yX18_empties cX18_empties 1 ((Option.none : Option Jvm.ClassFile.FieldType)))) be_X18_empties := by
  intro cl d2 hCl args h Q E ⟨x0, e, hw⟩
  subst e
  exact wx_X18_empties hst hCl hw
theorem mb_X18_init {l : Launch} (hst : l.stackTraces = false) {G : GG} {lm : Nat × Nat} : MB l G lm (yX18_init, (ws_ yX18_init cX18_init 1 ((Option.none : Option Jvm.ClassFile.FieldType)))) be_X18_init := by
  intro cl d2 hCl args h Q E ⟨x0, e, hw⟩
  subst e
  exact wx_X18_init hst hCl hw
theorem mb_X19_init {l : Launch} (hst : l.stackTraces = false) {G : GG} {lm : Nat × Nat} : MB l G lm (yX19_init, (ws_ yX19_init cX19_init 3 ((Option.none : Option Jvm.ClassFile.FieldType)))) be_X19_init := by
  intro cl d2 hCl args h Q E ⟨x0, x1, x2, e, hw⟩
  subst e
  exact wx_X19_init hst hCl hw
theorem mb_X19_path {l : Launch} (hst : l.stackTraces = false) {G : GG} {lm : Nat × Nat} : MB l G lm (yX19_path, (ws_ yX19_path cX19_path 1 ((Option.some Jvm.ClassFile.FieldType.int)))) be_X19_path := by
  intro cl d2 hCl args h Q E ⟨x0, e, hw⟩
  subst e
  exact wx_X19_path hst hCl hw
theorem mb_X20_init {l : Launch} (hst : l.stackTraces = false) {G : GG} {lm : Nat × Nat} : MB l G lm (yX20_init, (ws_ yX20_init cX20_init 2 ((Option.none : Option Jvm.ClassFile.FieldType)))) be_X20_init := by
  intro cl d2 hCl args h Q E ⟨x0, x1, e, hw⟩
  subst e
  exact wx_X20_init hst hCl hw
theorem all_MB {l : Launch} (hst : l.stackTraces = false) {G : GG} {lm : Nat × Nat} : All2 (MB l G lm) mY bT := ⟨mb_J4_init hst, mb_J5_afterNodeAccess hst, mb_J5_afterNodeInsertion hst, mb_J5_containsKey hst, mb_J5_get hst, mb_J5_getNode hst, mb_J5_hash hst, mb_J5_init hst, mb_J5_newNode hst, mb_J5_put hst, mb_J5_putVal hst, mb_J5_resize hst, mb_J5_size hst, mb_J5_treeifyBin hst, mb_J6_afterNodeAccess hst, mb_J6_afterNodeInsertion hst, mb_J6_get hst, mb_J6_init hst, mb_J6_keySet hst, mb_J6_linkNodeAtEnd hst, mb_J6_newNode hst, mb_J6_removeEldestEntry hst, mb_J6_sequencedKeySet hst, mb_J8_compare hst, mb_J8_compareTo hst, mb_J8_compareTo_2 hst, mb_J8_equals hst, mb_J8_hashCode hst, mb_J8_hashCode_2 hst, mb_J8_init hst, mb_J8_intValue hst, mb_J9_getKey hst, mb_J9_init hst, mb_J10_init hst, mb_J12_init hst, mb_J13_init hst, mb_J14_init hst, mb_J14_iterator hst, mb_J18_hasNext hst, mb_J18_init hst, mb_J18_nextNode hst, mb_J19_init hst, mb_J19_next hst, mb_J23_add hst, mb_J23_init hst, mb_J23_iterator hst, mb_J23_size hst, mb_X0_act hst, mb_X0_at hst, mb_X0_below hst, mb_X0_belowTold hst, mb_X0_by hst, mb_X0_changed hst, mb_X0_check hst, mb_X0_clear hst, mb_X0_clearIt hst, mb_X0_coded hst, mb_X0_codedTold hst, mb_X0_count hst, mb_X0_different hst, mb_X0_differentOnes hst, mb_X0_divisor hst, mb_X0_drawn hst, mb_X0_drops hst, mb_X0_eitherLook hst, mb_X0_far hst, mb_X0_fault hst, mb_X0_faultTold hst, mb_X0_faults hst, mb_X0_findingWith hst, mb_X0_first hst, mb_X0_found hst, mb_X0_foundWith hst, mb_X0_greatestPath hst, mb_X0_has hst, mb_X0_hurt hst, mb_X0_image hst, mb_X0_imageIt hst, mb_X0_in hst, mb_X0_init hst, mb_X0_isBelow hst, mb_X0_isLess hst, mb_X0_isRowOf hst, mb_X0_judge hst, mb_X0_judgeRow hst, mb_X0_lambda_eitherLook_4 hst, mb_X0_lambda_listLook_2 hst, mb_X0_lambda_numberLook_0 hst, mb_X0_lambda_onceLook_3 hst, mb_X0_lambda_thereLook_1 hst, mb_X0_letter hst, mb_X0_letterIt hst, mb_X0_limited hst, mb_X0_limitedTold hst, mb_X0_listLook hst, mb_X0_loss hst, mb_X0_lossPart hst, mb_X0_lossTold hst, mb_X0_lots hst, mb_X0_lotsTold hst, mb_X0_mean hst, mb_X0_meanTold hst, mb_X0_mend hst, mb_X0_mendTold hst, mb_X0_must hst, mb_X0_mustBeBit hst, mb_X0_numberLook hst, mb_X0_numbersOf hst, mb_X0_ofFaults hst, mb_X0_ofRest hst, mb_X0_often hst, mb_X0_oftenTold hst, mb_X0_on hst, mb_X0_onIt hst, mb_X0_onceLook hst, mb_X0_part hst, mb_X0_partAsked hst, mb_X0_partOf hst, mb_X0_parts hst, mb_X0_path hst, mb_X0_pathIn hst, mb_X0_put hst, mb_X0_putIt hst, mb_X0_puts hst, mb_X0_range hst, mb_X0_rangeTold hst, mb_X0_readCheck hst, mb_X0_readValue hst, mb_X0_refuse hst, mb_X0_row hst, mb_X0_rowIt hst, mb_X0_same hst, mb_X0_sameTold hst, mb_X0_swap hst, mb_X0_thereLook hst, mb_X0_total hst, mb_X0_totalTold hst, mb_X0_value hst, mb_X0_waits hst, mb_X0_which hst, mb_X0_whichTold hst, mb_X0_within hst, mb_X0_without hst, mb_X0_withoutTold hst, mb_X1_init hst, mb_X1_layAll hst, mb_X2_equals hst, mb_X2_hashCode hst, mb_X2_init hst, mb_X2_kind hst, mb_X2_lay hst, mb_X2_many hst, mb_X2_size hst, mb_X2_step hst, mb_X2_total hst, mb_X2_with hst, mb_X3_again hst, mb_X3_init hst, mb_X3_lambda_again_1 hst, mb_X3_lambda_new_0 hst, mb_X3_of hst, mb_X4_emptied hst, mb_X4_finding hst, mb_X4_found hst, mb_X4_init hst, mb_X5_equals hst, mb_X5_hashCode hst, mb_X5_init hst, mb_X5_kind hst, mb_X5_lay hst, mb_X5_many hst, mb_X5_size hst, mb_X5_step hst, mb_X5_total hst, mb_X5_with hst, mb_X6_init hst, mb_X6_isHolding hst, mb_X6_many hst, mb_X6_measures hst, mb_X8_init hst, mb_X8_number hst, mb_X9_check hst, mb_X9_digit hst, mb_X9_end hst, mb_X9_here hst, mb_X9_init hst, mb_X9_lambda_check_0 hst, mb_X9_lambda_record_1 hst, mb_X9_lambda_record_2 hst, mb_X9_list hst, mb_X9_mustStand hst, mb_X9_name hst, mb_X9_pair hst, mb_X9_rec hst, mb_X9_record hst, mb_X9_take hst, mb_X9_under hst, mb_X9_value hst, mb_X9_wrong hst, mb_X10_init hst, mb_X10_number hst, mb_X11_equals hst, mb_X11_hashCode hst, mb_X11_init hst, mb_X11_kind hst, mb_X11_lay hst, mb_X11_many hst, mb_X11_size hst, mb_X11_step hst, mb_X11_total hst, mb_X11_with hst, mb_X12_equals hst, mb_X12_hashCode hst, mb_X12_init hst, mb_X12_isAhead hst, mb_X12_kind hst, mb_X12_lay hst, mb_X12_many hst, mb_X12_size hst, mb_X12_step hst, mb_X12_total hst, mb_X12_with hst, mb_X13_init hst, mb_X13_of hst, mb_X13_path hst, mb_X13_told hst, mb_X14_dependent hst, mb_X14_field hst, mb_X14_hangs hst, mb_X14_independent hst, mb_X14_init hst, mb_X14_isField hst, mb_X14_look hst, mb_X14_lookAt hst, mb_X15_init hst, mb_X16_init hst, mb_X17_and hst, mb_X17_below hst, mb_X17_emptied hst, mb_X17_finds hst, mb_X17_init hst, mb_X17_isNone hst, mb_X18_add hst, mb_X18_addAll hst, mb_X18_at hst, mb_X18_below hst, mb_X18_empties hst, mb_X18_init hst, mb_X19_init hst, mb_X19_path hst, mb_X20_init hst, trivial⟩
theorem all_met {l : Launch} (hst : l.stackTraces = false) {G : GG} {lm : Nat × Nat} (hlm : hLm G lm) : ∀ n : Nat, CallsOK l G (n + 8) (wpAll lm n) ∧ LamsOK l G (n + 8) (wpAll lm n)
  | 0 => ⟨fun _ _ _ _ _ _ _ _ h => h.elim, fun _ _ _ _ _ _ h => h.elim⟩
  | n + 1 => by
    obtain ⟨hc, hl⟩ := all_met hst hlm n
    have hm : ∀ (mid : Nat) (y : MethodName) (ws : List Cond), mY[mid]? = some (y, ws) → ∀ (args : List Value) (h : HS) (Q : QT) (E : ET), wpAll lm (n + 1) mid args h Q E → HMet l G y ws (n + 1 + 8) args h Q E := by
      intro mid y ws hmY args h Q E hw
      rcases hw with ⟨f, hf, hw⟩ | ⟨i, a, As, h1, h2, e, -⟩
      · exact all_MB hst |>.get hmY hf (wpAll lm n) (n + 8) ⟨hc, hlm, by omega, hl⟩ args h Q E hw
      · have hlt : mid < mY.length := (List.getElem?_eq_some_iff.mp hmY).1
        have hle : mY.length = 251 := rfl
        omega
    refine ⟨hm, ?_⟩
    intro i a As h Q E hw h1 h2
    rcases hw with ⟨f, hf, hw⟩ | ⟨j, a2, As2, g1, g2, e, e2, hlw, hw⟩
    · have hlt := (List.getElem?_eq_some_iff.mp hf).1
      have hle : bT.length = 251 := rfl
      omega
    · have hij : j = i := by omega
      subst hij
      cases e2
      have hy : ∃ y ws, mY[lamM j]? = some (y, ws) := by
        have : lamM j < mY.length := by
          have hle : mY.length = 251 := rfl
          rw [hle]
          rcases (show j = 1 ∨ j = 2 ∨ j = 3 ∨ j = 4 ∨ j = 5 ∨ j = 6 ∨ j = 7 ∨ j = 8 ∨ j = 9 ∨ j = 10 ∨ j = 11 by omega) with e | e | e | e | e | e | e | e | e | e | e <;> subst e <;> decide
        exact ⟨_, _, List.getElem?_eq_getElem this⟩
      obtain ⟨y, ws, hy⟩ := hy
      exact ⟨n + 8, y, ws, by omega, hy, hlw, hc _ _ _ hy _ _ _ _ hw⟩
