set_option maxRecDepth 100000
def g_fuel : Nat := 1000
def gcl : List vw_C := [(RX0, TX0, 13), (RX1, TX1, 13), (RX2, TX2, 12), (RX3, TX3, 2), (RX4, TX4, 1), (RX5, TX5, 2), (RX6, TX6, 2), (RX7, TX7, 3), (RX8, TX8, 3), (RX9, TX9, 2), (RX10, TX10, 28), (RX11, TX11, 6), (RX12, TX12, 7)]
def gty (d : Nat → ClassId) : List (ClassId × FieldType) := [(d 0, .int), (d 1, .byte), (d 2, .boolean), (d 3, .long), (d 4, .object "SleeveSlips$Sleeve"), (d 5, .object "SleeveSlips$Town"), (d 6, .object "SleeveSlips$Person")]
def mw (d : Nat → ClassId) (ad : Nat → Nat) (w : Nat → Int32) (isKept : Nat → Int32) (people : Int32) (room : Nat → Int32) (work : Nat → Int32) (price : Nat → Int32) (askings : Int32) (asked : Nat → Int32) (hangs : Int32) (hung : Nat → Int32) (tenths : Nat → Int32) (sortWorth : Nat → Int32) (sortDays : Nat → Int32) (sorts : Int32) (text : Nat → Int32) (texted : Int32) (trace : Int64) (at_ : Int32) (fault : Int32) (readPeople : Int32) (readPerson : Nat → Int32) (readAskings : Int32) (readAsked : Nat → Int32) (readHangs : Int32) (readHung : Nat → Int32) (rest : Nat → Int32) (brings : Nat → Int64) (later : Nat → Int64) : va_W := [(ad 0, .inr (10, [.ref (ad 1), .ref (ad 2), .int people, .ref (ad 3), .ref (ad 4), .ref (ad 5), .int askings, .ref (ad 6), .int hangs, .ref (ad 7), .ref (ad 8), .ref (ad 9), .ref (ad 10), .int sorts, .ref (ad 11), .int texted, .long trace, .int at_, .int fault, .int readPeople, .ref (ad 12), .int readAskings, .ref (ad 13), .int readHangs, .ref (ad 14), .ref (ad 15), .ref (ad 16), .ref (ad 17)])),
  (ad 1, .inl (d 0, 300, .inl w)),
  (ad 2, .inl (d 2, 2, .inl isKept)),
  (ad 3, .inl (d 0, 4, .inl room)),
  (ad 4, .inl (d 0, 4, .inl work)),
  (ad 5, .inl (d 0, 4, .inl price)),
  (ad 6, .inl (d 0, 40, .inl asked)),
  (ad 7, .inl (d 0, 16, .inl hung)),
  (ad 8, .inl (d 0, 3, .inl tenths)),
  (ad 9, .inl (d 0, 3, .inl sortWorth)),
  (ad 10, .inl (d 0, 3, .inl sortDays)),
  (ad 11, .inl (d 0, 300, .inl text)),
  (ad 12, .inl (d 0, 12, .inl readPerson)),
  (ad 13, .inl (d 0, 40, .inl readAsked)),
  (ad 14, .inl (d 0, 16, .inl readHung)),
  (ad 15, .inl (d 0, 8, .inl rest)),
  (ad 16, .inl (d 3, 12, .inr (.inl brings))),
  (ad 17, .inl (d 3, 12, .inr (.inl later)))]
